/-! walks -/
set_option maxRecDepth 100000
theorem dX8_init_0 : decode mi_X8_init.2.1 0 = .ok (.aload_n 0, 1) := by decide +kernel
theorem dX8_init_1 : decode mi_X8_init.2.1 1 = .ok (.invokespecial 1, 3) := by decide +kernel
theorem dX8_init_4 : decode mi_X8_init.2.1 4 = .ok (.aload_n 0, 1) := by decide +kernel
theorem dX8_init_5 : decode mi_X8_init.2.1 5 = .ok (.iconst 4, 1) := by decide +kernel
theorem dX8_init_6 : decode mi_X8_init.2.1 6 = .ok (.newarray .int, 2) := by decide +kernel
theorem dX8_init_8 : decode mi_X8_init.2.1 8 = .ok (.putfield 7, 3) := by decide +kernel
theorem dX8_init_11 : decode mi_X8_init.2.1 11 = .ok (.aload_n 0, 1) := by decide +kernel
theorem dX8_init_12 : decode mi_X8_init.2.1 12 = .ok (.iconst 4, 1) := by decide +kernel
theorem dX8_init_13 : decode mi_X8_init.2.1 13 = .ok (.newarray .int, 2) := by decide +kernel
theorem dX8_init_15 : decode mi_X8_init.2.1 15 = .ok (.putfield 13, 3) := by decide +kernel
theorem dX8_init_18 : decode mi_X8_init.2.1 18 = .ok (.aload_n 0, 1) := by decide +kernel
theorem dX8_init_19 : decode mi_X8_init.2.1 19 = .ok (.sipush 160, 3) := by decide +kernel
theorem dX8_init_22 : decode mi_X8_init.2.1 22 = .ok (.newarray .long, 2) := by decide +kernel
theorem dX8_init_24 : decode mi_X8_init.2.1 24 = .ok (.putfield 16, 3) := by decide +kernel
theorem dX8_init_27 : decode mi_X8_init.2.1 27 = .ok (.aload_n 0, 1) := by decide +kernel
theorem dX8_init_28 : decode mi_X8_init.2.1 28 = .ok (.bipush 20, 2) := by decide +kernel
theorem dX8_init_30 : decode mi_X8_init.2.1 30 = .ok (.newarray .int, 2) := by decide +kernel
theorem dX8_init_32 : decode mi_X8_init.2.1 32 = .ok (.putfield 20, 3) := by decide +kernel
theorem dX8_init_35 : decode mi_X8_init.2.1 35 = .ok (.aload_n 0, 1) := by decide +kernel
theorem dX8_init_36 : decode mi_X8_init.2.1 36 = .ok (.bipush 20, 2) := by decide +kernel
theorem dX8_init_38 : decode mi_X8_init.2.1 38 = .ok (.newarray .int, 2) := by decide +kernel
theorem dX8_init_40 : decode mi_X8_init.2.1 40 = .ok (.putfield 23, 3) := by decide +kernel
theorem dX8_init_43 : decode mi_X8_init.2.1 43 = .ok (.aload_n 0, 1) := by decide +kernel
theorem dX8_init_44 : decode mi_X8_init.2.1 44 = .ok (.bipush 20, 2) := by decide +kernel
theorem dX8_init_46 : decode mi_X8_init.2.1 46 = .ok (.newarray .int, 2) := by decide +kernel
theorem dX8_init_48 : decode mi_X8_init.2.1 48 = .ok (.putfield 26, 3) := by decide +kernel
theorem dX8_init_51 : decode mi_X8_init.2.1 51 = .ok (.aload_n 0, 1) := by decide +kernel
theorem dX8_init_52 : decode mi_X8_init.2.1 52 = .ok (.bipush 8, 2) := by decide +kernel
theorem dX8_init_54 : decode mi_X8_init.2.1 54 = .ok (.newarray .int, 2) := by decide +kernel
theorem dX8_init_56 : decode mi_X8_init.2.1 56 = .ok (.putfield 29, 3) := by decide +kernel
theorem dX8_init_59 : decode mi_X8_init.2.1 59 = .ok (.aload_n 0, 1) := by decide +kernel
theorem dX8_init_60 : decode mi_X8_init.2.1 60 = .ok (.bipush 8, 2) := by decide +kernel
theorem dX8_init_62 : decode mi_X8_init.2.1 62 = .ok (.newarray .int, 2) := by decide +kernel
theorem dX8_init_64 : decode mi_X8_init.2.1 64 = .ok (.putfield 32, 3) := by decide +kernel
theorem dX8_init_67 : decode mi_X8_init.2.1 67 = .ok (.aload_n 0, 1) := by decide +kernel
theorem dX8_init_68 : decode mi_X8_init.2.1 68 = .ok (.bipush 120, 2) := by decide +kernel
theorem dX8_init_70 : decode mi_X8_init.2.1 70 = .ok (.newarray .int, 2) := by decide +kernel
theorem dX8_init_72 : decode mi_X8_init.2.1 72 = .ok (.putfield 35, 3) := by decide +kernel
theorem dX8_init_75 : decode mi_X8_init.2.1 75 = .ok (.aload_n 0, 1) := by decide +kernel
theorem dX8_init_76 : decode mi_X8_init.2.1 76 = .ok (.bipush 120, 2) := by decide +kernel
theorem dX8_init_78 : decode mi_X8_init.2.1 78 = .ok (.newarray .int, 2) := by decide +kernel
theorem dX8_init_80 : decode mi_X8_init.2.1 80 = .ok (.putfield 38, 3) := by decide +kernel
theorem dX8_init_83 : decode mi_X8_init.2.1 83 = .ok (.aload_n 0, 1) := by decide +kernel
theorem dX8_init_84 : decode mi_X8_init.2.1 84 = .ok (.bipush 120, 2) := by decide +kernel
theorem dX8_init_86 : decode mi_X8_init.2.1 86 = .ok (.newarray .int, 2) := by decide +kernel
theorem dX8_init_88 : decode mi_X8_init.2.1 88 = .ok (.putfield 41, 3) := by decide +kernel
theorem dX8_init_91 : decode mi_X8_init.2.1 91 = .ok (.aload_n 0, 1) := by decide +kernel
theorem dX8_init_92 : decode mi_X8_init.2.1 92 = .ok (.bipush 120, 2) := by decide +kernel
theorem dX8_init_94 : decode mi_X8_init.2.1 94 = .ok (.newarray .int, 2) := by decide +kernel
theorem dX8_init_96 : decode mi_X8_init.2.1 96 = .ok (.putfield 44, 3) := by decide +kernel
theorem dX8_init_99 : decode mi_X8_init.2.1 99 = .ok (.aload_n 0, 1) := by decide +kernel
theorem dX8_init_100 : decode mi_X8_init.2.1 100 = .ok (.bipush 120, 2) := by decide +kernel
theorem dX8_init_102 : decode mi_X8_init.2.1 102 = .ok (.newarray .int, 2) := by decide +kernel
theorem dX8_init_104 : decode mi_X8_init.2.1 104 = .ok (.putfield 47, 3) := by decide +kernel
theorem dX8_init_107 : decode mi_X8_init.2.1 107 = .ok (.aload_n 0, 1) := by decide +kernel
theorem dX8_init_108 : decode mi_X8_init.2.1 108 = .ok (.bipush 120, 2) := by decide +kernel
theorem dX8_init_110 : decode mi_X8_init.2.1 110 = .ok (.newarray .int, 2) := by decide +kernel
theorem dX8_init_112 : decode mi_X8_init.2.1 112 = .ok (.putfield 50, 3) := by decide +kernel
theorem dX8_init_115 : decode mi_X8_init.2.1 115 = .ok (.aload_n 0, 1) := by decide +kernel
theorem dX8_init_116 : decode mi_X8_init.2.1 116 = .ok (.bipush 120, 2) := by decide +kernel
theorem dX8_init_118 : decode mi_X8_init.2.1 118 = .ok (.newarray .int, 2) := by decide +kernel
theorem dX8_init_120 : decode mi_X8_init.2.1 120 = .ok (.putfield 53, 3) := by decide +kernel
theorem dX8_init_123 : decode mi_X8_init.2.1 123 = .ok (.aload_n 0, 1) := by decide +kernel
theorem dX8_init_124 : decode mi_X8_init.2.1 124 = .ok (.bipush 120, 2) := by decide +kernel
theorem dX8_init_126 : decode mi_X8_init.2.1 126 = .ok (.newarray .int, 2) := by decide +kernel
theorem dX8_init_128 : decode mi_X8_init.2.1 128 = .ok (.putfield 56, 3) := by decide +kernel
theorem dX8_init_131 : decode mi_X8_init.2.1 131 = .ok (.aload_n 0, 1) := by decide +kernel
theorem dX8_init_132 : decode mi_X8_init.2.1 132 = .ok (.bipush 120, 2) := by decide +kernel
theorem dX8_init_134 : decode mi_X8_init.2.1 134 = .ok (.newarray .int, 2) := by decide +kernel
theorem dX8_init_136 : decode mi_X8_init.2.1 136 = .ok (.putfield 59, 3) := by decide +kernel
theorem dX8_init_139 : decode mi_X8_init.2.1 139 = .ok (.aload_n 0, 1) := by decide +kernel
theorem dX8_init_140 : decode mi_X8_init.2.1 140 = .ok (.bipush 120, 2) := by decide +kernel
theorem dX8_init_142 : decode mi_X8_init.2.1 142 = .ok (.newarray .int, 2) := by decide +kernel
theorem dX8_init_144 : decode mi_X8_init.2.1 144 = .ok (.putfield 62, 3) := by decide +kernel
theorem dX8_init_147 : decode mi_X8_init.2.1 147 = .ok (.aload_n 0, 1) := by decide +kernel
theorem dX8_init_148 : decode mi_X8_init.2.1 148 = .ok (.bipush 100, 2) := by decide +kernel
theorem dX8_init_150 : decode mi_X8_init.2.1 150 = .ok (.newarray .int, 2) := by decide +kernel
theorem dX8_init_152 : decode mi_X8_init.2.1 152 = .ok (.putfield 65, 3) := by decide +kernel
theorem dX8_init_155 : decode mi_X8_init.2.1 155 = .ok (.aload_n 0, 1) := by decide +kernel
theorem dX8_init_156 : decode mi_X8_init.2.1 156 = .ok (.bipush 100, 2) := by decide +kernel
theorem dX8_init_158 : decode mi_X8_init.2.1 158 = .ok (.newarray .int, 2) := by decide +kernel
theorem dX8_init_160 : decode mi_X8_init.2.1 160 = .ok (.putfield 68, 3) := by decide +kernel
theorem dX8_init_163 : decode mi_X8_init.2.1 163 = .ok (.aload_n 0, 1) := by decide +kernel
theorem dX8_init_164 : decode mi_X8_init.2.1 164 = .ok (.bipush 100, 2) := by decide +kernel
theorem dX8_init_166 : decode mi_X8_init.2.1 166 = .ok (.newarray .int, 2) := by decide +kernel
theorem dX8_init_168 : decode mi_X8_init.2.1 168 = .ok (.putfield 71, 3) := by decide +kernel
theorem dX8_init_171 : decode mi_X8_init.2.1 171 = .ok (.aload_n 0, 1) := by decide +kernel
theorem dX8_init_172 : decode mi_X8_init.2.1 172 = .ok (.bipush 100, 2) := by decide +kernel
theorem dX8_init_174 : decode mi_X8_init.2.1 174 = .ok (.newarray .int, 2) := by decide +kernel
theorem dX8_init_176 : decode mi_X8_init.2.1 176 = .ok (.putfield 74, 3) := by decide +kernel
theorem dX8_init_179 : decode mi_X8_init.2.1 179 = .ok (.aload_n 0, 1) := by decide +kernel
theorem dX8_init_180 : decode mi_X8_init.2.1 180 = .ok (.sipush 9600, 3) := by decide +kernel
theorem dX8_init_183 : decode mi_X8_init.2.1 183 = .ok (.newarray .int, 2) := by decide +kernel
theorem dX8_init_185 : decode mi_X8_init.2.1 185 = .ok (.putfield 77, 3) := by decide +kernel
theorem dX8_init_188 : decode mi_X8_init.2.1 188 = .ok (.aload_n 0, 1) := by decide +kernel
theorem dX8_init_189 : decode mi_X8_init.2.1 189 = .ok (.sipush 2400, 3) := by decide +kernel
theorem dX8_init_192 : decode mi_X8_init.2.1 192 = .ok (.newarray .int, 2) := by decide +kernel
theorem dX8_init_194 : decode mi_X8_init.2.1 194 = .ok (.putfield 80, 3) := by decide +kernel
theorem dX8_init_197 : decode mi_X8_init.2.1 197 = .ok (.aload_n 0, 1) := by decide +kernel
theorem dX8_init_198 : decode mi_X8_init.2.1 198 = .ok (.bipush 120, 2) := by decide +kernel
theorem dX8_init_200 : decode mi_X8_init.2.1 200 = .ok (.newarray .int, 2) := by decide +kernel
theorem dX8_init_202 : decode mi_X8_init.2.1 202 = .ok (.putfield 83, 3) := by decide +kernel
theorem dX8_init_205 : decode mi_X8_init.2.1 205 = .ok (.aload_n 0, 1) := by decide +kernel
theorem dX8_init_206 : decode mi_X8_init.2.1 206 = .ok (.bipush 120, 2) := by decide +kernel
theorem dX8_init_208 : decode mi_X8_init.2.1 208 = .ok (.newarray .int, 2) := by decide +kernel
theorem dX8_init_210 : decode mi_X8_init.2.1 210 = .ok (.putfield 86, 3) := by decide +kernel
theorem dX8_init_213 : decode mi_X8_init.2.1 213 = .ok (.aload_n 0, 1) := by decide +kernel
theorem dX8_init_214 : decode mi_X8_init.2.1 214 = .ok (.bipush 120, 2) := by decide +kernel
theorem dX8_init_216 : decode mi_X8_init.2.1 216 = .ok (.newarray .int, 2) := by decide +kernel
theorem dX8_init_218 : decode mi_X8_init.2.1 218 = .ok (.putfield 89, 3) := by decide +kernel
theorem dX8_init_221 : decode mi_X8_init.2.1 221 = .ok (.aload_n 0, 1) := by decide +kernel
theorem dX8_init_222 : decode mi_X8_init.2.1 222 = .ok (.bipush 20, 2) := by decide +kernel
theorem dX8_init_224 : decode mi_X8_init.2.1 224 = .ok (.newarray .int, 2) := by decide +kernel
theorem dX8_init_226 : decode mi_X8_init.2.1 226 = .ok (.putfield 92, 3) := by decide +kernel
theorem dX8_init_229 : decode mi_X8_init.2.1 229 = .ok (.aload_n 0, 1) := by decide +kernel
theorem dX8_init_230 : decode mi_X8_init.2.1 230 = .ok (.bipush 20, 2) := by decide +kernel
theorem dX8_init_232 : decode mi_X8_init.2.1 232 = .ok (.newarray .int, 2) := by decide +kernel
theorem dX8_init_234 : decode mi_X8_init.2.1 234 = .ok (.putfield 95, 3) := by decide +kernel
theorem dX8_init_237 : decode mi_X8_init.2.1 237 = .ok (.aload_n 0, 1) := by decide +kernel
theorem dX8_init_238 : decode mi_X8_init.2.1 238 = .ok (.bipush 20, 2) := by decide +kernel
theorem dX8_init_240 : decode mi_X8_init.2.1 240 = .ok (.newarray .int, 2) := by decide +kernel
theorem dX8_init_242 : decode mi_X8_init.2.1 242 = .ok (.putfield 98, 3) := by decide +kernel
theorem dX8_init_245 : decode mi_X8_init.2.1 245 = .ok (.aload_n 0, 1) := by decide +kernel
theorem dX8_init_246 : decode mi_X8_init.2.1 246 = .ok (.bipush 20, 2) := by decide +kernel
theorem dX8_init_248 : decode mi_X8_init.2.1 248 = .ok (.newarray .int, 2) := by decide +kernel
theorem dX8_init_250 : decode mi_X8_init.2.1 250 = .ok (.putfield 101, 3) := by decide +kernel
theorem dX8_init_253 : decode mi_X8_init.2.1 253 = .ok (.aload_n 0, 1) := by decide +kernel
theorem dX8_init_254 : decode mi_X8_init.2.1 254 = .ok (.bipush 20, 2) := by decide +kernel
theorem dX8_init_256 : decode mi_X8_init.2.1 256 = .ok (.newarray .long, 2) := by decide +kernel
theorem dX8_init_258 : decode mi_X8_init.2.1 258 = .ok (.putfield 104, 3) := by decide +kernel
theorem dX8_init_261 : decode mi_X8_init.2.1 261 = .ok (.aload_n 0, 1) := by decide +kernel
theorem dX8_init_262 : decode mi_X8_init.2.1 262 = .ok (.bipush 20, 2) := by decide +kernel
theorem dX8_init_264 : decode mi_X8_init.2.1 264 = .ok (.newarray .long, 2) := by decide +kernel
theorem dX8_init_266 : decode mi_X8_init.2.1 266 = .ok (.putfield 107, 3) := by decide +kernel
theorem dX8_init_269 : decode mi_X8_init.2.1 269 = .ok (.aload_n 0, 1) := by decide +kernel
theorem dX8_init_270 : decode mi_X8_init.2.1 270 = .ok (.bipush 20, 2) := by decide +kernel
theorem dX8_init_272 : decode mi_X8_init.2.1 272 = .ok (.newarray .long, 2) := by decide +kernel
theorem dX8_init_274 : decode mi_X8_init.2.1 274 = .ok (.putfield 110, 3) := by decide +kernel
theorem dX8_init_277 : decode mi_X8_init.2.1 277 = .ok (.aload_n 0, 1) := by decide +kernel
theorem dX8_init_278 : decode mi_X8_init.2.1 278 = .ok (.sipush 500, 3) := by decide +kernel
theorem dX8_init_281 : decode mi_X8_init.2.1 281 = .ok (.newarray .byte, 2) := by decide +kernel
theorem dX8_init_283 : decode mi_X8_init.2.1 283 = .ok (.putfield 113, 3) := by decide +kernel
theorem dX8_init_286 : decode mi_X8_init.2.1 286 = .ok (.aload_n 0, 1) := by decide +kernel
theorem dX8_init_287 : decode mi_X8_init.2.1 287 = .ok (.iconst (-1), 1) := by decide +kernel
theorem dX8_init_288 : decode mi_X8_init.2.1 288 = .ok (.putfield 117, 3) := by decide +kernel
theorem dX8_init_291 : decode mi_X8_init.2.1 291 = .ok (.aload_n 0, 1) := by decide +kernel
theorem dX8_init_292 : decode mi_X8_init.2.1 292 = .ok (.iconst (-1), 1) := by decide +kernel
theorem dX8_init_293 : decode mi_X8_init.2.1 293 = .ok (.putfield 121, 3) := by decide +kernel
theorem dX8_init_296 : decode mi_X8_init.2.1 296 = .ok (.aload_n 0, 1) := by decide +kernel
theorem dX8_init_297 : decode mi_X8_init.2.1 297 = .ok (.iconst 4, 1) := by decide +kernel
theorem dX8_init_298 : decode mi_X8_init.2.1 298 = .ok (.newarray .int, 2) := by decide +kernel
theorem dX8_init_300 : decode mi_X8_init.2.1 300 = .ok (.putfield 124, 3) := by decide +kernel
theorem dX8_init_303 : decode mi_X8_init.2.1 303 = .ok (.aload_n 0, 1) := by decide +kernel
theorem dX8_init_304 : decode mi_X8_init.2.1 304 = .ok (.iconst 4, 1) := by decide +kernel
theorem dX8_init_305 : decode mi_X8_init.2.1 305 = .ok (.newarray .int, 2) := by decide +kernel
theorem dX8_init_307 : decode mi_X8_init.2.1 307 = .ok (.putfield 127, 3) := by decide +kernel
theorem dX8_init_310 : decode mi_X8_init.2.1 310 = .ok (.aload_n 0, 1) := by decide +kernel
theorem dX8_init_311 : decode mi_X8_init.2.1 311 = .ok (.bipush 44, 2) := by decide +kernel
theorem dX8_init_313 : decode mi_X8_init.2.1 313 = .ok (.newarray .int, 2) := by decide +kernel
theorem dX8_init_315 : decode mi_X8_init.2.1 315 = .ok (.putfield 130, 3) := by decide +kernel
theorem dX8_init_318 : decode mi_X8_init.2.1 318 = .ok (.aload_n 0, 1) := by decide +kernel
theorem dX8_init_319 : decode mi_X8_init.2.1 319 = .ok (.sipush 4400, 3) := by decide +kernel
theorem dX8_init_322 : decode mi_X8_init.2.1 322 = .ok (.newarray .int, 2) := by decide +kernel
theorem dX8_init_324 : decode mi_X8_init.2.1 324 = .ok (.putfield 133, 3) := by decide +kernel
theorem dX8_init_327 : decode mi_X8_init.2.1 327 = .ok (.aload_n 0, 1) := by decide +kernel
theorem dX8_init_328 : decode mi_X8_init.2.1 328 = .ok (.bipush 11, 2) := by decide +kernel
theorem dX8_init_330 : decode mi_X8_init.2.1 330 = .ok (.newarray .int, 2) := by decide +kernel
theorem dX8_init_332 : decode mi_X8_init.2.1 332 = .ok (.putfield 136, 3) := by decide +kernel
theorem dX8_init_335 : decode mi_X8_init.2.1 335 = .ok (.aload_n 0, 1) := by decide +kernel
theorem dX8_init_336 : decode mi_X8_init.2.1 336 = .ok (.sipush 1100, 3) := by decide +kernel
theorem dX8_init_339 : decode mi_X8_init.2.1 339 = .ok (.newarray .int, 2) := by decide +kernel
theorem dX8_init_341 : decode mi_X8_init.2.1 341 = .ok (.putfield 139, 3) := by decide +kernel
theorem dX8_init_344 : decode mi_X8_init.2.1 344 = .ok (.aload_n 0, 1) := by decide +kernel
theorem dX8_init_345 : decode mi_X8_init.2.1 345 = .ok (.bipush 40, 2) := by decide +kernel
theorem dX8_init_347 : decode mi_X8_init.2.1 347 = .ok (.newarray .long, 2) := by decide +kernel
theorem dX8_init_349 : decode mi_X8_init.2.1 349 = .ok (.putfield 142, 3) := by decide +kernel
theorem dX8_init_352 : decode mi_X8_init.2.1 352 = .ok (.aload_n 0, 1) := by decide +kernel
theorem dX8_init_353 : decode mi_X8_init.2.1 353 = .ok (.bipush 10, 2) := by decide +kernel
theorem dX8_init_355 : decode mi_X8_init.2.1 355 = .ok (.newarray .long, 2) := by decide +kernel
theorem dX8_init_357 : decode mi_X8_init.2.1 357 = .ok (.putfield 145, 3) := by decide +kernel
theorem dX8_init_360 : decode mi_X8_init.2.1 360 = .ok (.aload_n 0, 1) := by decide +kernel
theorem dX8_init_361 : decode mi_X8_init.2.1 361 = .ok (.sipush 600, 3) := by decide +kernel
theorem dX8_init_364 : decode mi_X8_init.2.1 364 = .ok (.newarray .long, 2) := by decide +kernel
theorem dX8_init_366 : decode mi_X8_init.2.1 366 = .ok (.putfield 148, 3) := by decide +kernel
theorem dX8_init_369 : decode mi_X8_init.2.1 369 = .ok (.aload_n 0, 1) := by decide +kernel
theorem dX8_init_370 : decode mi_X8_init.2.1 370 = .ok (.bipush 11, 2) := by decide +kernel
theorem dX8_init_372 : decode mi_X8_init.2.1 372 = .ok (.newarray .long, 2) := by decide +kernel
theorem dX8_init_374 : decode mi_X8_init.2.1 374 = .ok (.putfield 151, 3) := by decide +kernel
theorem dX8_init_377 : decode mi_X8_init.2.1 377 = .ok (.aload_n 0, 1) := by decide +kernel
theorem dX8_init_378 : decode mi_X8_init.2.1 378 = .ok (.bipush 10, 2) := by decide +kernel
theorem dX8_init_380 : decode mi_X8_init.2.1 380 = .ok (.newarray .long, 2) := by decide +kernel
theorem dX8_init_382 : decode mi_X8_init.2.1 382 = .ok (.putfield 154, 3) := by decide +kernel
theorem dX8_init_385 : decode mi_X8_init.2.1 385 = .ok (.aload_n 0, 1) := by decide +kernel
theorem dX8_init_386 : decode mi_X8_init.2.1 386 = .ok (.sipush 600, 3) := by decide +kernel
theorem dX8_init_389 : decode mi_X8_init.2.1 389 = .ok (.newarray .boolean, 2) := by decide +kernel
theorem dX8_init_391 : decode mi_X8_init.2.1 391 = .ok (.putfield 157, 3) := by decide +kernel
theorem dX8_init_394 : decode mi_X8_init.2.1 394 = .ok (.aload_n 0, 1) := by decide +kernel
theorem dX8_init_395 : decode mi_X8_init.2.1 395 = .ok (.bipush 10, 2) := by decide +kernel
theorem dX8_init_397 : decode mi_X8_init.2.1 397 = .ok (.newarray .boolean, 2) := by decide +kernel
theorem dX8_init_399 : decode mi_X8_init.2.1 399 = .ok (.putfield 161, 3) := by decide +kernel
theorem dX8_init_402 : decode mi_X8_init.2.1 402 = .ok (.aload_n 0, 1) := by decide +kernel
theorem dX8_init_403 : decode mi_X8_init.2.1 403 = .ok (.bipush 20, 2) := by decide +kernel
theorem dX8_init_405 : decode mi_X8_init.2.1 405 = .ok (.newarray .long, 2) := by decide +kernel
theorem dX8_init_407 : decode mi_X8_init.2.1 407 = .ok (.putfield 164, 3) := by decide +kernel
theorem dX8_init_410 : decode mi_X8_init.2.1 410 = .ok (.aload_n 0, 1) := by decide +kernel
theorem dX8_init_411 : decode mi_X8_init.2.1 411 = .ok (.bipush 20, 2) := by decide +kernel
theorem dX8_init_413 : decode mi_X8_init.2.1 413 = .ok (.newarray .long, 2) := by decide +kernel
theorem dX8_init_415 : decode mi_X8_init.2.1 415 = .ok (.putfield 167, 3) := by decide +kernel
theorem dX8_init_418 : decode mi_X8_init.2.1 418 = .ok (.aload_n 0, 1) := by decide +kernel
theorem dX8_init_419 : decode mi_X8_init.2.1 419 = .ok (.bipush 20, 2) := by decide +kernel
theorem dX8_init_421 : decode mi_X8_init.2.1 421 = .ok (.newarray .long, 2) := by decide +kernel
theorem dX8_init_423 : decode mi_X8_init.2.1 423 = .ok (.putfield 170, 3) := by decide +kernel
theorem dX8_init_426 : decode mi_X8_init.2.1 426 = .ok (.aload_n 0, 1) := by decide +kernel
theorem dX8_init_427 : decode mi_X8_init.2.1 427 = .ok (.bipush 20, 2) := by decide +kernel
theorem dX8_init_429 : decode mi_X8_init.2.1 429 = .ok (.newarray .long, 2) := by decide +kernel
theorem dX8_init_431 : decode mi_X8_init.2.1 431 = .ok (.putfield 173, 3) := by decide +kernel
theorem dX8_init_434 : decode mi_X8_init.2.1 434 = .ok (.aload_n 0, 1) := by decide +kernel
theorem dX8_init_435 : decode mi_X8_init.2.1 435 = .ok (.bipush 20, 2) := by decide +kernel
theorem dX8_init_437 : decode mi_X8_init.2.1 437 = .ok (.newarray .int, 2) := by decide +kernel
theorem dX8_init_439 : decode mi_X8_init.2.1 439 = .ok (.putfield 176, 3) := by decide +kernel
theorem dX8_init_442 : decode mi_X8_init.2.1 442 = .ok (.aload_n 0, 1) := by decide +kernel
theorem dX8_init_443 : decode mi_X8_init.2.1 443 = .ok (.bipush 20, 2) := by decide +kernel
theorem dX8_init_445 : decode mi_X8_init.2.1 445 = .ok (.newarray .int, 2) := by decide +kernel
theorem dX8_init_447 : decode mi_X8_init.2.1 447 = .ok (.putfield 179, 3) := by decide +kernel
theorem dX8_init_450 : decode mi_X8_init.2.1 450 = .ok (.aload_n 0, 1) := by decide +kernel
theorem dX8_init_451 : decode mi_X8_init.2.1 451 = .ok (.bipush 20, 2) := by decide +kernel
theorem dX8_init_453 : decode mi_X8_init.2.1 453 = .ok (.newarray .int, 2) := by decide +kernel
theorem dX8_init_455 : decode mi_X8_init.2.1 455 = .ok (.putfield 182, 3) := by decide +kernel
theorem dX8_init_458 : decode mi_X8_init.2.1 458 = .ok (.aload_n 0, 1) := by decide +kernel
theorem dX8_init_459 : decode mi_X8_init.2.1 459 = .ok (.bipush 60, 2) := by decide +kernel
theorem dX8_init_461 : decode mi_X8_init.2.1 461 = .ok (.newarray .int, 2) := by decide +kernel
theorem dX8_init_463 : decode mi_X8_init.2.1 463 = .ok (.putfield 185, 3) := by decide +kernel
theorem dX8_init_466 : decode mi_X8_init.2.1 466 = .ok (.aload_n 0, 1) := by decide +kernel
theorem dX8_init_467 : decode mi_X8_init.2.1 467 = .ok (.bipush 60, 2) := by decide +kernel
theorem dX8_init_469 : decode mi_X8_init.2.1 469 = .ok (.newarray .int, 2) := by decide +kernel
theorem dX8_init_471 : decode mi_X8_init.2.1 471 = .ok (.putfield 188, 3) := by decide +kernel
theorem dX8_init_474 : decode mi_X8_init.2.1 474 = .ok (.aload_n 0, 1) := by decide +kernel
theorem dX8_init_475 : decode mi_X8_init.2.1 475 = .ok (.bipush 60, 2) := by decide +kernel
theorem dX8_init_477 : decode mi_X8_init.2.1 477 = .ok (.newarray .int, 2) := by decide +kernel
theorem dX8_init_479 : decode mi_X8_init.2.1 479 = .ok (.putfield 191, 3) := by decide +kernel
theorem dX8_init_482 : decode mi_X8_init.2.1 482 = .ok (.aload_n 0, 1) := by decide +kernel
theorem dX8_init_483 : decode mi_X8_init.2.1 483 = .ok (.bipush 60, 2) := by decide +kernel
theorem dX8_init_485 : decode mi_X8_init.2.1 485 = .ok (.newarray .int, 2) := by decide +kernel
theorem dX8_init_487 : decode mi_X8_init.2.1 487 = .ok (.putfield 194, 3) := by decide +kernel
theorem dX8_init_490 : decode mi_X8_init.2.1 490 = .ok (.aload_n 0, 1) := by decide +kernel
theorem dX8_init_491 : decode mi_X8_init.2.1 491 = .ok (.sipush 520, 3) := by decide +kernel
theorem dX8_init_494 : decode mi_X8_init.2.1 494 = .ok (.newarray .int, 2) := by decide +kernel
theorem dX8_init_496 : decode mi_X8_init.2.1 496 = .ok (.putfield 197, 3) := by decide +kernel
theorem dX8_init_499 : decode mi_X8_init.2.1 499 = .ok (.aload_n 0, 1) := by decide +kernel
theorem dX8_init_500 : decode mi_X8_init.2.1 500 = .ok (.sipush 200, 3) := by decide +kernel
theorem dX8_init_503 : decode mi_X8_init.2.1 503 = .ok (.newarray .boolean, 2) := by decide +kernel
theorem dX8_init_505 : decode mi_X8_init.2.1 505 = .ok (.putfield 200, 3) := by decide +kernel
theorem dX8_init_508 : decode mi_X8_init.2.1 508 = .ok (.aload_n 0, 1) := by decide +kernel
theorem dX8_init_509 : decode mi_X8_init.2.1 509 = .ok (.bipush 10, 2) := by decide +kernel
theorem dX8_init_511 : decode mi_X8_init.2.1 511 = .ok (.putfield 203, 3) := by decide +kernel
theorem dX8_init_514 : decode mi_X8_init.2.1 514 = .ok (.aload_n 0, 1) := by decide +kernel
theorem dX8_init_515 : decode mi_X8_init.2.1 515 = .ok (.iconst 2, 1) := by decide +kernel
theorem dX8_init_516 : decode mi_X8_init.2.1 516 = .ok (.putfield 206, 3) := by decide +kernel
theorem dX8_init_519 : decode mi_X8_init.2.1 519 = .ok (.aload_n 0, 1) := by decide +kernel
theorem dX8_init_520 : decode mi_X8_init.2.1 520 = .ok (.bipush 20, 2) := by decide +kernel
theorem dX8_init_522 : decode mi_X8_init.2.1 522 = .ok (.newarray .int, 2) := by decide +kernel
theorem dX8_init_524 : decode mi_X8_init.2.1 524 = .ok (.putfield 209, 3) := by decide +kernel
theorem dX8_init_527 : decode mi_X8_init.2.1 527 = .ok (.aload_n 0, 1) := by decide +kernel
theorem dX8_init_528 : decode mi_X8_init.2.1 528 = .ok (.bipush 6, 2) := by decide +kernel
theorem dX8_init_530 : decode mi_X8_init.2.1 530 = .ok (.newarray .int, 2) := by decide +kernel
theorem dX8_init_532 : decode mi_X8_init.2.1 532 = .ok (.putfield 212, 3) := by decide +kernel
theorem dX8_init_535 : decode mi_X8_init.2.1 535 = .ok (.aload_n 0, 1) := by decide +kernel
theorem dX8_init_536 : decode mi_X8_init.2.1 536 = .ok (.bipush 6, 2) := by decide +kernel
theorem dX8_init_538 : decode mi_X8_init.2.1 538 = .ok (.newarray .long, 2) := by decide +kernel
theorem dX8_init_540 : decode mi_X8_init.2.1 540 = .ok (.putfield 215, 3) := by decide +kernel
theorem dX8_init_543 : decode mi_X8_init.2.1 543 = .ok (.aload_n 0, 1) := by decide +kernel
theorem dX8_init_544 : decode mi_X8_init.2.1 544 = .ok (.bipush 6, 2) := by decide +kernel
theorem dX8_init_546 : decode mi_X8_init.2.1 546 = .ok (.newarray .long, 2) := by decide +kernel
theorem dX8_init_548 : decode mi_X8_init.2.1 548 = .ok (.putfield 218, 3) := by decide +kernel
theorem dX8_init_551 : decode mi_X8_init.2.1 551 = .ok (.aload_n 0, 1) := by decide +kernel
theorem dX8_init_552 : decode mi_X8_init.2.1 552 = .ok (.bipush 20, 2) := by decide +kernel
theorem dX8_init_554 : decode mi_X8_init.2.1 554 = .ok (.newarray .long, 2) := by decide +kernel
theorem dX8_init_556 : decode mi_X8_init.2.1 556 = .ok (.putfield 221, 3) := by decide +kernel
theorem dX8_init_559 : decode mi_X8_init.2.1 559 = .ok (.aload_n 0, 1) := by decide +kernel
theorem dX8_init_560 : decode mi_X8_init.2.1 560 = .ok (.bipush 8, 2) := by decide +kernel
theorem dX8_init_562 : decode mi_X8_init.2.1 562 = .ok (.newarray .int, 2) := by decide +kernel
theorem dX8_init_564 : decode mi_X8_init.2.1 564 = .ok (.putfield 224, 3) := by decide +kernel
theorem dX8_init_567 : decode mi_X8_init.2.1 567 = .ok (.aload_n 0, 1) := by decide +kernel
theorem dX8_init_568 : decode mi_X8_init.2.1 568 = .ok (.bipush 8, 2) := by decide +kernel
theorem dX8_init_570 : decode mi_X8_init.2.1 570 = .ok (.newarray .int, 2) := by decide +kernel
theorem dX8_init_572 : decode mi_X8_init.2.1 572 = .ok (.putfield 227, 3) := by decide +kernel
theorem dX8_init_575 : decode mi_X8_init.2.1 575 = .ok (.aload_n 0, 1) := by decide +kernel
theorem dX8_init_576 : decode mi_X8_init.2.1 576 = .ok (.bipush 20, 2) := by decide +kernel
theorem dX8_init_578 : decode mi_X8_init.2.1 578 = .ok (.newarray .int, 2) := by decide +kernel
theorem dX8_init_580 : decode mi_X8_init.2.1 580 = .ok (.putfield 230, 3) := by decide +kernel
theorem dX8_init_583 : decode mi_X8_init.2.1 583 = .ok (.aload_n 0, 1) := by decide +kernel
theorem dX8_init_584 : decode mi_X8_init.2.1 584 = .ok (.sipush 5376, 3) := by decide +kernel
theorem dX8_init_587 : decode mi_X8_init.2.1 587 = .ok (.newarray .int, 2) := by decide +kernel
theorem dX8_init_589 : decode mi_X8_init.2.1 589 = .ok (.putfield 233, 3) := by decide +kernel
theorem dX8_init_592 : decode mi_X8_init.2.1 592 = .ok (.aload_n 0, 1) := by decide +kernel
theorem dX8_init_593 : decode mi_X8_init.2.1 593 = .ok (.iconst 5, 1) := by decide +kernel
theorem dX8_init_594 : decode mi_X8_init.2.1 594 = .ok (.newarray .int, 2) := by decide +kernel
theorem dX8_init_596 : decode mi_X8_init.2.1 596 = .ok (.putfield 236, 3) := by decide +kernel
theorem dX8_init_599 : decode mi_X8_init.2.1 599 = .ok (.aload_n 0, 1) := by decide +kernel
theorem dX8_init_600 : decode mi_X8_init.2.1 600 = .ok (.iconst 4, 1) := by decide +kernel
theorem dX8_init_601 : decode mi_X8_init.2.1 601 = .ok (.newarray .int, 2) := by decide +kernel
theorem dX8_init_603 : decode mi_X8_init.2.1 603 = .ok (.putfield 239, 3) := by decide +kernel
theorem dX8_init_606 : decode mi_X8_init.2.1 606 = .ok (.aload_n 0, 1) := by decide +kernel
theorem dX8_init_607 : decode mi_X8_init.2.1 607 = .ok (.bipush 20, 2) := by decide +kernel
theorem dX8_init_609 : decode mi_X8_init.2.1 609 = .ok (.newarray .int, 2) := by decide +kernel
theorem dX8_init_611 : decode mi_X8_init.2.1 611 = .ok (.putfield 242, 3) := by decide +kernel
theorem dX8_init_614 : decode mi_X8_init.2.1 614 = .ok (.aload_n 0, 1) := by decide +kernel
theorem dX8_init_615 : decode mi_X8_init.2.1 615 = .ok (.bipush 20, 2) := by decide +kernel
theorem dX8_init_617 : decode mi_X8_init.2.1 617 = .ok (.newarray .int, 2) := by decide +kernel
theorem dX8_init_619 : decode mi_X8_init.2.1 619 = .ok (.putfield 245, 3) := by decide +kernel
theorem dX8_init_622 : decode mi_X8_init.2.1 622 = .ok (.aload_n 0, 1) := by decide +kernel
theorem dX8_init_623 : decode mi_X8_init.2.1 623 = .ok (.bipush 11, 2) := by decide +kernel
theorem dX8_init_625 : decode mi_X8_init.2.1 625 = .ok (.newarray .int, 2) := by decide +kernel
theorem dX8_init_627 : decode mi_X8_init.2.1 627 = .ok (.putfield 248, 3) := by decide +kernel
theorem dX8_init_630 : decode mi_X8_init.2.1 630 = .ok (.aload_n 0, 1) := by decide +kernel
theorem dX8_init_631 : decode mi_X8_init.2.1 631 = .ok (.bipush 11, 2) := by decide +kernel
theorem dX8_init_633 : decode mi_X8_init.2.1 633 = .ok (.newarray .int, 2) := by decide +kernel
theorem dX8_init_635 : decode mi_X8_init.2.1 635 = .ok (.putfield 251, 3) := by decide +kernel
theorem dX8_init_638 : decode mi_X8_init.2.1 638 = .ok (.aload_n 0, 1) := by decide +kernel
theorem dX8_init_639 : decode mi_X8_init.2.1 639 = .ok (.bipush 8, 2) := by decide +kernel
theorem dX8_init_641 : decode mi_X8_init.2.1 641 = .ok (.newarray .int, 2) := by decide +kernel
theorem dX8_init_643 : decode mi_X8_init.2.1 643 = .ok (.putfield 254, 3) := by decide +kernel
theorem dX8_init_646 : decode mi_X8_init.2.1 646 = .ok (.iconst 0, 1) := by decide +kernel
theorem dX8_init_647 : decode mi_X8_init.2.1 647 = .ok (.istore_n 1, 1) := by decide +kernel
theorem dX8_init_648 : decode mi_X8_init.2.1 648 = .ok (.iload_n 1, 1) := by decide +kernel
theorem dX8_init_649 : decode mi_X8_init.2.1 649 = .ok (.iconst 4, 1) := by decide +kernel
theorem dX8_init_650 : decode mi_X8_init.2.1 650 = .ok (.if_icmp .ge 16, 3) := by decide +kernel
theorem dX8_init_653 : decode mi_X8_init.2.1 653 = .ok (.aload_n 0, 1) := by decide +kernel
theorem dX8_init_654 : decode mi_X8_init.2.1 654 = .ok (.getfield 13, 3) := by decide +kernel
theorem dX8_init_657 : decode mi_X8_init.2.1 657 = .ok (.iload_n 1, 1) := by decide +kernel
theorem dX8_init_658 : decode mi_X8_init.2.1 658 = .ok (.iconst (-1), 1) := by decide +kernel
theorem dX8_init_659 : decode mi_X8_init.2.1 659 = .ok (.iastore, 1) := by decide +kernel
theorem dX8_init_660 : decode mi_X8_init.2.1 660 = .ok (.iinc 1 1, 3) := by decide +kernel
theorem dX8_init_663 : decode mi_X8_init.2.1 663 = .ok (.goto (-15), 3) := by decide +kernel
theorem dX8_init_666 : decode mi_X8_init.2.1 666 = .ok (.iconst 0, 1) := by decide +kernel
theorem dX8_init_667 : decode mi_X8_init.2.1 667 = .ok (.istore_n 1, 1) := by decide +kernel
theorem dX8_init_668 : decode mi_X8_init.2.1 668 = .ok (.iload_n 1, 1) := by decide +kernel
theorem dX8_init_669 : decode mi_X8_init.2.1 669 = .ok (.bipush 20, 2) := by decide +kernel
theorem dX8_init_671 : decode mi_X8_init.2.1 671 = .ok (.if_icmp .ge 30, 3) := by decide +kernel
theorem dX8_init_674 : decode mi_X8_init.2.1 674 = .ok (.aload_n 0, 1) := by decide +kernel
theorem dX8_init_675 : decode mi_X8_init.2.1 675 = .ok (.getfield 176, 3) := by decide +kernel
theorem dX8_init_678 : decode mi_X8_init.2.1 678 = .ok (.iload_n 1, 1) := by decide +kernel
theorem dX8_init_679 : decode mi_X8_init.2.1 679 = .ok (.iconst (-1), 1) := by decide +kernel
theorem dX8_init_680 : decode mi_X8_init.2.1 680 = .ok (.iastore, 1) := by decide +kernel
theorem dX8_init_681 : decode mi_X8_init.2.1 681 = .ok (.aload_n 0, 1) := by decide +kernel
theorem dX8_init_682 : decode mi_X8_init.2.1 682 = .ok (.getfield 179, 3) := by decide +kernel
theorem dX8_init_685 : decode mi_X8_init.2.1 685 = .ok (.iload_n 1, 1) := by decide +kernel
theorem dX8_init_686 : decode mi_X8_init.2.1 686 = .ok (.iconst (-1), 1) := by decide +kernel
theorem dX8_init_687 : decode mi_X8_init.2.1 687 = .ok (.iastore, 1) := by decide +kernel
theorem dX8_init_688 : decode mi_X8_init.2.1 688 = .ok (.aload_n 0, 1) := by decide +kernel
theorem dX8_init_689 : decode mi_X8_init.2.1 689 = .ok (.getfield 182, 3) := by decide +kernel
theorem dX8_init_692 : decode mi_X8_init.2.1 692 = .ok (.iload_n 1, 1) := by decide +kernel
theorem dX8_init_693 : decode mi_X8_init.2.1 693 = .ok (.iconst (-1), 1) := by decide +kernel
theorem dX8_init_694 : decode mi_X8_init.2.1 694 = .ok (.iastore, 1) := by decide +kernel
theorem dX8_init_695 : decode mi_X8_init.2.1 695 = .ok (.iinc 1 1, 3) := by decide +kernel
theorem dX8_init_698 : decode mi_X8_init.2.1 698 = .ok (.goto (-30), 3) := by decide +kernel
theorem dX8_init_701 : decode mi_X8_init.2.1 701 = .ok (.return_, 1) := by decide +kernel
theorem v_X8_init {G : ma_G} {d : Nat} {a0 : Nat} {h : ah_T} {Q : Option ma_V → ah_T → Prop} {E : Nat → ah_T → Prop}  (H : ah_kd h a0 ≠ 0 ∧ (1 ≤ ah_rc h ∧ 4 ≤ ah_rs h) ∧ ∀ h3 : ah_T, h3 = ah_new h 40 4 4 → ah_ext h h3 → ah_liv h → ah_kd h3 a0 = 9 ∧ ah_R h3 a0 2 = 0 ∧ ∀ h7 : ah_T, h7 = ah_wR h3 a0 2 (ah_sz h) → ah_ext h3 h7 → (1 ≤ ah_rc h7 ∧ 4 ≤ ah_rs h7) ∧ ∀ h9 : ah_T, h9 = ah_new h7 40 4 4 → ah_ext h7 h9 → ah_liv h7 → ah_R h9 a0 3 = 0 ∧ ∀ h14 : ah_T, h14 = ah_wR h9 a0 3 (ah_sz h7) → ah_ext h9 h14 → (1 ≤ ah_rc h14 ∧ 160 ≤ ah_rs h14) ∧ ∀ h16 : ah_T, h16 = ah_new h14 41 160 160 → ah_ext h14 h16 → ah_liv h14 → ah_R h16 a0 4 = 0 ∧ ∀ h22 : ah_T, h22 = ah_wR h16 a0 4 (ah_sz h14) → ah_ext h16 h22 → (1 ≤ ah_rc h22 ∧ 20 ≤ ah_rs h22) ∧ ∀ h24 : ah_T, h24 = ah_new h22 40 20 20 → ah_ext h22 h24 → ah_liv h22 → ah_R h24 a0 11 = 0 ∧ ∀ h31 : ah_T, h31 = ah_wR h24 a0 11 (ah_sz h22) → ah_ext h24 h31 → (1 ≤ ah_rc h31 ∧ 20 ≤ ah_rs h31) ∧ ∀ h33 : ah_T, h33 = ah_new h31 40 20 20 → ah_ext h31 h33 → ah_liv h31 → ah_R h33 a0 12 = 0 ∧ ∀ h41 : ah_T, h41 = ah_wR h33 a0 12 (ah_sz h31) → ah_ext h33 h41 → (1 ≤ ah_rc h41 ∧ 20 ≤ ah_rs h41) ∧ ∀ h43 : ah_T, h43 = ah_new h41 40 20 20 → ah_ext h41 h43 → ah_liv h41 → ah_R h43 a0 13 = 0 ∧ ∀ h52 : ah_T, h52 = ah_wR h43 a0 13 (ah_sz h41) → ah_ext h43 h52 → (1 ≤ ah_rc h52 ∧ 8 ≤ ah_rs h52) ∧ ∀ h54 : ah_T, h54 = ah_new h52 40 8 8 → ah_ext h52 h54 → ah_liv h52 → ah_R h54 a0 14 = 0 ∧ ∀ h64 : ah_T, h64 = ah_wR h54 a0 14 (ah_sz h52) → ah_ext h54 h64 → (1 ≤ ah_rc h64 ∧ 8 ≤ ah_rs h64) ∧ ∀ h66 : ah_T, h66 = ah_new h64 40 8 8 → ah_ext h64 h66 → ah_liv h64 → ah_R h66 a0 15 = 0 ∧ ∀ h77 : ah_T, h77 = ah_wR h66 a0 15 (ah_sz h64) → ah_ext h66 h77 → (1 ≤ ah_rc h77 ∧ 120 ≤ ah_rs h77) ∧ ∀ h79 : ah_T, h79 = ah_new h77 40 120 120 → ah_ext h77 h79 → ah_liv h77 → ah_R h79 a0 16 = 0 ∧ ∀ h91 : ah_T, h91 = ah_wR h79 a0 16 (ah_sz h77) → ah_ext h79 h91 → (1 ≤ ah_rc h91 ∧ 120 ≤ ah_rs h91) ∧ ∀ h93 : ah_T, h93 = ah_new h91 40 120 120 → ah_ext h91 h93 → ah_liv h91 → ah_R h93 a0 17 = 0 ∧ ∀ h106 : ah_T, h106 = ah_wR h93 a0 17 (ah_sz h91) → ah_ext h93 h106 → (1 ≤ ah_rc h106 ∧ 120 ≤ ah_rs h106) ∧ ∀ h108 : ah_T, h108 = ah_new h106 40 120 120 → ah_ext h106 h108 → ah_liv h106 → ah_R h108 a0 18 = 0 ∧ ∀ h122 : ah_T, h122 = ah_wR h108 a0 18 (ah_sz h106) → ah_ext h108 h122 → (1 ≤ ah_rc h122 ∧ 120 ≤ ah_rs h122) ∧ ∀ h124 : ah_T, h124 = ah_new h122 40 120 120 → ah_ext h122 h124 → ah_liv h122 → ah_R h124 a0 19 = 0 ∧ ∀ h139 : ah_T, h139 = ah_wR h124 a0 19 (ah_sz h122) → ah_ext h124 h139 → (1 ≤ ah_rc h139 ∧ 120 ≤ ah_rs h139) ∧ ∀ h141 : ah_T, h141 = ah_new h139 40 120 120 → ah_ext h139 h141 → ah_liv h139 → ah_R h141 a0 20 = 0 ∧ ∀ h157 : ah_T, h157 = ah_wR h141 a0 20 (ah_sz h139) → ah_ext h141 h157 → (1 ≤ ah_rc h157 ∧ 120 ≤ ah_rs h157) ∧ ∀ h159 : ah_T, h159 = ah_new h157 40 120 120 → ah_ext h157 h159 → ah_liv h157 → ah_R h159 a0 21 = 0 ∧ ∀ h176 : ah_T, h176 = ah_wR h159 a0 21 (ah_sz h157) → ah_ext h159 h176 → (1 ≤ ah_rc h176 ∧ 120 ≤ ah_rs h176) ∧ ∀ h178 : ah_T, h178 = ah_new h176 40 120 120 → ah_ext h176 h178 → ah_liv h176 → ah_R h178 a0 22 = 0 ∧ ∀ h196 : ah_T, h196 = ah_wR h178 a0 22 (ah_sz h176) → ah_ext h178 h196 → (1 ≤ ah_rc h196 ∧ 120 ≤ ah_rs h196) ∧ ∀ h198 : ah_T, h198 = ah_new h196 40 120 120 → ah_ext h196 h198 → ah_liv h196 → ah_R h198 a0 23 = 0 ∧ ∀ h217 : ah_T, h217 = ah_wR h198 a0 23 (ah_sz h196) → ah_ext h198 h217 → (1 ≤ ah_rc h217 ∧ 120 ≤ ah_rs h217) ∧ ∀ h219 : ah_T, h219 = ah_new h217 40 120 120 → ah_ext h217 h219 → ah_liv h217 → ah_R h219 a0 24 = 0 ∧ ∀ h239 : ah_T, h239 = ah_wR h219 a0 24 (ah_sz h217) → ah_ext h219 h239 → (1 ≤ ah_rc h239 ∧ 120 ≤ ah_rs h239) ∧ ∀ h241 : ah_T, h241 = ah_new h239 40 120 120 → ah_ext h239 h241 → ah_liv h239 → ah_R h241 a0 25 = 0 ∧ ∀ h262 : ah_T, h262 = ah_wR h241 a0 25 (ah_sz h239) → ah_ext h241 h262 → (1 ≤ ah_rc h262 ∧ 100 ≤ ah_rs h262) ∧ ∀ h264 : ah_T, h264 = ah_new h262 40 100 100 → ah_ext h262 h264 → ah_liv h262 → ah_R h264 a0 26 = 0 ∧ ∀ h286 : ah_T, h286 = ah_wR h264 a0 26 (ah_sz h262) → ah_ext h264 h286 → (1 ≤ ah_rc h286 ∧ 100 ≤ ah_rs h286) ∧ ∀ h288 : ah_T, h288 = ah_new h286 40 100 100 → ah_ext h286 h288 → ah_liv h286 → ah_R h288 a0 27 = 0 ∧ ∀ h311 : ah_T, h311 = ah_wR h288 a0 27 (ah_sz h286) → ah_ext h288 h311 → (1 ≤ ah_rc h311 ∧ 100 ≤ ah_rs h311) ∧ ∀ h313 : ah_T, h313 = ah_new h311 40 100 100 → ah_ext h311 h313 → ah_liv h311 → ah_R h313 a0 28 = 0 ∧ ∀ h337 : ah_T, h337 = ah_wR h313 a0 28 (ah_sz h311) → ah_ext h313 h337 → (1 ≤ ah_rc h337 ∧ 100 ≤ ah_rs h337) ∧ ∀ h339 : ah_T, h339 = ah_new h337 40 100 100 → ah_ext h337 h339 → ah_liv h337 → ah_R h339 a0 29 = 0 ∧ ∀ h364 : ah_T, h364 = ah_wR h339 a0 29 (ah_sz h337) → ah_ext h339 h364 → (1 ≤ ah_rc h364 ∧ 9600 ≤ ah_rs h364) ∧ ∀ h366 : ah_T, h366 = ah_new h364 40 9600 9600 → ah_ext h364 h366 → ah_liv h364 → ah_R h366 a0 30 = 0 ∧ ∀ h392 : ah_T, h392 = ah_wR h366 a0 30 (ah_sz h364) → ah_ext h366 h392 → (1 ≤ ah_rc h392 ∧ 2400 ≤ ah_rs h392) ∧ ∀ h394 : ah_T, h394 = ah_new h392 40 2400 2400 → ah_ext h392 h394 → ah_liv h392 → ah_R h394 a0 31 = 0 ∧ ∀ h421 : ah_T, h421 = ah_wR h394 a0 31 (ah_sz h392) → ah_ext h394 h421 → (1 ≤ ah_rc h421 ∧ 120 ≤ ah_rs h421) ∧ ∀ h423 : ah_T, h423 = ah_new h421 40 120 120 → ah_ext h421 h423 → ah_liv h421 → ah_R h423 a0 32 = 0 ∧ ∀ h451 : ah_T, h451 = ah_wR h423 a0 32 (ah_sz h421) → ah_ext h423 h451 → (1 ≤ ah_rc h451 ∧ 120 ≤ ah_rs h451) ∧ ∀ h453 : ah_T, h453 = ah_new h451 40 120 120 → ah_ext h451 h453 → ah_liv h451 → ah_R h453 a0 33 = 0 ∧ ∀ h482 : ah_T, h482 = ah_wR h453 a0 33 (ah_sz h451) → ah_ext h453 h482 → (1 ≤ ah_rc h482 ∧ 120 ≤ ah_rs h482) ∧ ∀ h484 : ah_T, h484 = ah_new h482 40 120 120 → ah_ext h482 h484 → ah_liv h482 → ah_R h484 a0 34 = 0 ∧ ∀ h514 : ah_T, h514 = ah_wR h484 a0 34 (ah_sz h482) → ah_ext h484 h514 → (1 ≤ ah_rc h514 ∧ 20 ≤ ah_rs h514) ∧ ∀ h516 : ah_T, h516 = ah_new h514 40 20 20 → ah_ext h514 h516 → ah_liv h514 → ah_R h516 a0 35 = 0 ∧ ∀ h547 : ah_T, h547 = ah_wR h516 a0 35 (ah_sz h514) → ah_ext h516 h547 → (1 ≤ ah_rc h547 ∧ 20 ≤ ah_rs h547) ∧ ∀ h549 : ah_T, h549 = ah_new h547 40 20 20 → ah_ext h547 h549 → ah_liv h547 → ah_R h549 a0 36 = 0 ∧ ∀ h581 : ah_T, h581 = ah_wR h549 a0 36 (ah_sz h547) → ah_ext h549 h581 → (1 ≤ ah_rc h581 ∧ 20 ≤ ah_rs h581) ∧ ∀ h583 : ah_T, h583 = ah_new h581 40 20 20 → ah_ext h581 h583 → ah_liv h581 → ah_R h583 a0 37 = 0 ∧ ∀ h616 : ah_T, h616 = ah_wR h583 a0 37 (ah_sz h581) → ah_ext h583 h616 → (1 ≤ ah_rc h616 ∧ 20 ≤ ah_rs h616) ∧ ∀ h618 : ah_T, h618 = ah_new h616 40 20 20 → ah_ext h616 h618 → ah_liv h616 → ah_R h618 a0 38 = 0 ∧ ∀ h652 : ah_T, h652 = ah_wR h618 a0 38 (ah_sz h616) → ah_ext h618 h652 → (1 ≤ ah_rc h652 ∧ 20 ≤ ah_rs h652) ∧ ∀ h654 : ah_T, h654 = ah_new h652 41 20 20 → ah_ext h652 h654 → ah_liv h652 → ah_R h654 a0 40 = 0 ∧ ∀ h689 : ah_T, h689 = ah_wR h654 a0 40 (ah_sz h652) → ah_ext h654 h689 → (1 ≤ ah_rc h689 ∧ 20 ≤ ah_rs h689) ∧ ∀ h691 : ah_T, h691 = ah_new h689 41 20 20 → ah_ext h689 h691 → ah_liv h689 → ah_R h691 a0 41 = 0 ∧ ∀ h727 : ah_T, h727 = ah_wR h691 a0 41 (ah_sz h689) → ah_ext h691 h727 → (1 ≤ ah_rc h727 ∧ 20 ≤ ah_rs h727) ∧ ∀ h729 : ah_T, h729 = ah_new h727 41 20 20 → ah_ext h727 h729 → ah_liv h727 → ah_R h729 a0 42 = 0 ∧ ∀ h766 : ah_T, h766 = ah_wR h729 a0 42 (ah_sz h727) → ah_ext h729 h766 → (1 ≤ ah_rc h766 ∧ 500 ≤ ah_rs h766) ∧ ∀ h768 : ah_T, h768 = ah_new h766 42 500 500 → ah_ext h766 h768 → ah_liv h766 → ah_R h768 a0 43 = 0 ∧ ∀ h806 : ah_T, h806 = ah_wR h768 a0 43 (ah_sz h766) → ah_ext h768 h806 → ∀ h807 : ah_T, h807 = ah_wI h806 a0 46 (-1 : Int32) → ah_ext h806 h807 → ∀ h808 : ah_T, h808 = ah_wI h807 a0 47 (-1 : Int32) → ah_ext h807 h808 → (1 ≤ ah_rc h808 ∧ 4 ≤ ah_rs h808) ∧ ∀ h810 : ah_T, h810 = ah_new h808 40 4 4 → ah_ext h808 h810 → ah_liv h808 → ah_R h810 a0 59 = 0 ∧ ∀ h849 : ah_T, h849 = ah_wR h810 a0 59 (ah_sz h808) → ah_ext h810 h849 → (1 ≤ ah_rc h849 ∧ 4 ≤ ah_rs h849) ∧ ∀ h851 : ah_T, h851 = ah_new h849 40 4 4 → ah_ext h849 h851 → ah_liv h849 → ah_R h851 a0 60 = 0 ∧ ∀ h891 : ah_T, h891 = ah_wR h851 a0 60 (ah_sz h849) → ah_ext h851 h891 → (1 ≤ ah_rc h891 ∧ 44 ≤ ah_rs h891) ∧ ∀ h893 : ah_T, h893 = ah_new h891 40 44 44 → ah_ext h891 h893 → ah_liv h891 → ah_R h893 a0 61 = 0 ∧ ∀ h934 : ah_T, h934 = ah_wR h893 a0 61 (ah_sz h891) → ah_ext h893 h934 → (1 ≤ ah_rc h934 ∧ 4400 ≤ ah_rs h934) ∧ ∀ h936 : ah_T, h936 = ah_new h934 40 4400 4400 → ah_ext h934 h936 → ah_liv h934 → ah_R h936 a0 62 = 0 ∧ ∀ h978 : ah_T, h978 = ah_wR h936 a0 62 (ah_sz h934) → ah_ext h936 h978 → (1 ≤ ah_rc h978 ∧ 11 ≤ ah_rs h978) ∧ ∀ h980 : ah_T, h980 = ah_new h978 40 11 11 → ah_ext h978 h980 → ah_liv h978 → ah_R h980 a0 63 = 0 ∧ ∀ h1023 : ah_T, h1023 = ah_wR h980 a0 63 (ah_sz h978) → ah_ext h980 h1023 → (1 ≤ ah_rc h1023 ∧ 1100 ≤ ah_rs h1023) ∧ ∀ h1025 : ah_T, h1025 = ah_new h1023 40 1100 1100 → ah_ext h1023 h1025 → ah_liv h1023 → ah_R h1025 a0 64 = 0 ∧ ∀ h1069 : ah_T, h1069 = ah_wR h1025 a0 64 (ah_sz h1023) → ah_ext h1025 h1069 → (1 ≤ ah_rc h1069 ∧ 40 ≤ ah_rs h1069) ∧ ∀ h1071 : ah_T, h1071 = ah_new h1069 41 40 40 → ah_ext h1069 h1071 → ah_liv h1069 → ah_R h1071 a0 65 = 0 ∧ ∀ h1116 : ah_T, h1116 = ah_wR h1071 a0 65 (ah_sz h1069) → ah_ext h1071 h1116 → (1 ≤ ah_rc h1116 ∧ 10 ≤ ah_rs h1116) ∧ ∀ h1118 : ah_T, h1118 = ah_new h1116 41 10 10 → ah_ext h1116 h1118 → ah_liv h1116 → ah_R h1118 a0 66 = 0 ∧ ∀ h1164 : ah_T, h1164 = ah_wR h1118 a0 66 (ah_sz h1116) → ah_ext h1118 h1164 → (1 ≤ ah_rc h1164 ∧ 600 ≤ ah_rs h1164) ∧ ∀ h1166 : ah_T, h1166 = ah_new h1164 41 600 600 → ah_ext h1164 h1166 → ah_liv h1164 → ah_R h1166 a0 67 = 0 ∧ ∀ h1213 : ah_T, h1213 = ah_wR h1166 a0 67 (ah_sz h1164) → ah_ext h1166 h1213 → (1 ≤ ah_rc h1213 ∧ 11 ≤ ah_rs h1213) ∧ ∀ h1215 : ah_T, h1215 = ah_new h1213 41 11 11 → ah_ext h1213 h1215 → ah_liv h1213 → ah_R h1215 a0 68 = 0 ∧ ∀ h1263 : ah_T, h1263 = ah_wR h1215 a0 68 (ah_sz h1213) → ah_ext h1215 h1263 → (1 ≤ ah_rc h1263 ∧ 10 ≤ ah_rs h1263) ∧ ∀ h1265 : ah_T, h1265 = ah_new h1263 41 10 10 → ah_ext h1263 h1265 → ah_liv h1263 → ah_R h1265 a0 69 = 0 ∧ ∀ h1314 : ah_T, h1314 = ah_wR h1265 a0 69 (ah_sz h1263) → ah_ext h1265 h1314 → (1 ≤ ah_rc h1314 ∧ 600 ≤ ah_rs h1314) ∧ ∀ h1316 : ah_T, h1316 = ah_new h1314 44 600 600 → ah_ext h1314 h1316 → ah_liv h1314 → ah_R h1316 a0 70 = 0 ∧ ∀ h1366 : ah_T, h1366 = ah_wR h1316 a0 70 (ah_sz h1314) → ah_ext h1316 h1366 → (1 ≤ ah_rc h1366 ∧ 10 ≤ ah_rs h1366) ∧ ∀ h1368 : ah_T, h1368 = ah_new h1366 44 10 10 → ah_ext h1366 h1368 → ah_liv h1366 → ah_R h1368 a0 71 = 0 ∧ ∀ h1419 : ah_T, h1419 = ah_wR h1368 a0 71 (ah_sz h1366) → ah_ext h1368 h1419 → (1 ≤ ah_rc h1419 ∧ 20 ≤ ah_rs h1419) ∧ ∀ h1421 : ah_T, h1421 = ah_new h1419 41 20 20 → ah_ext h1419 h1421 → ah_liv h1419 → ah_R h1421 a0 73 = 0 ∧ ∀ h1473 : ah_T, h1473 = ah_wR h1421 a0 73 (ah_sz h1419) → ah_ext h1421 h1473 → (1 ≤ ah_rc h1473 ∧ 20 ≤ ah_rs h1473) ∧ ∀ h1475 : ah_T, h1475 = ah_new h1473 41 20 20 → ah_ext h1473 h1475 → ah_liv h1473 → ah_R h1475 a0 74 = 0 ∧ ∀ h1528 : ah_T, h1528 = ah_wR h1475 a0 74 (ah_sz h1473) → ah_ext h1475 h1528 → (1 ≤ ah_rc h1528 ∧ 20 ≤ ah_rs h1528) ∧ ∀ h1530 : ah_T, h1530 = ah_new h1528 41 20 20 → ah_ext h1528 h1530 → ah_liv h1528 → ah_R h1530 a0 75 = 0 ∧ ∀ h1584 : ah_T, h1584 = ah_wR h1530 a0 75 (ah_sz h1528) → ah_ext h1530 h1584 → (1 ≤ ah_rc h1584 ∧ 20 ≤ ah_rs h1584) ∧ ∀ h1586 : ah_T, h1586 = ah_new h1584 41 20 20 → ah_ext h1584 h1586 → ah_liv h1584 → ah_R h1586 a0 76 = 0 ∧ ∀ h1641 : ah_T, h1641 = ah_wR h1586 a0 76 (ah_sz h1584) → ah_ext h1586 h1641 → (1 ≤ ah_rc h1641 ∧ 20 ≤ ah_rs h1641) ∧ ∀ h1643 : ah_T, h1643 = ah_new h1641 40 20 20 → ah_ext h1641 h1643 → ah_liv h1641 → ah_R h1643 a0 79 = 0 ∧ ∀ h1699 : ah_T, h1699 = ah_wR h1643 a0 79 (ah_sz h1641) → ah_ext h1643 h1699 → (1 ≤ ah_rc h1699 ∧ 20 ≤ ah_rs h1699) ∧ ∀ h1701 : ah_T, h1701 = ah_new h1699 40 20 20 → ah_ext h1699 h1701 → ah_liv h1699 → ah_R h1701 a0 80 = 0 ∧ ∀ h1758 : ah_T, h1758 = ah_wR h1701 a0 80 (ah_sz h1699) → ah_ext h1701 h1758 → (1 ≤ ah_rc h1758 ∧ 20 ≤ ah_rs h1758) ∧ ∀ h1760 : ah_T, h1760 = ah_new h1758 40 20 20 → ah_ext h1758 h1760 → ah_liv h1758 → ah_R h1760 a0 81 = 0 ∧ ∀ h1818 : ah_T, h1818 = ah_wR h1760 a0 81 (ah_sz h1758) → ah_ext h1760 h1818 → (1 ≤ ah_rc h1818 ∧ 60 ≤ ah_rs h1818) ∧ ∀ h1820 : ah_T, h1820 = ah_new h1818 40 60 60 → ah_ext h1818 h1820 → ah_liv h1818 → ah_R h1820 a0 82 = 0 ∧ ∀ h1879 : ah_T, h1879 = ah_wR h1820 a0 82 (ah_sz h1818) → ah_ext h1820 h1879 → (1 ≤ ah_rc h1879 ∧ 60 ≤ ah_rs h1879) ∧ ∀ h1881 : ah_T, h1881 = ah_new h1879 40 60 60 → ah_ext h1879 h1881 → ah_liv h1879 → ah_R h1881 a0 83 = 0 ∧ ∀ h1941 : ah_T, h1941 = ah_wR h1881 a0 83 (ah_sz h1879) → ah_ext h1881 h1941 → (1 ≤ ah_rc h1941 ∧ 60 ≤ ah_rs h1941) ∧ ∀ h1943 : ah_T, h1943 = ah_new h1941 40 60 60 → ah_ext h1941 h1943 → ah_liv h1941 → ah_R h1943 a0 84 = 0 ∧ ∀ h2004 : ah_T, h2004 = ah_wR h1943 a0 84 (ah_sz h1941) → ah_ext h1943 h2004 → (1 ≤ ah_rc h2004 ∧ 60 ≤ ah_rs h2004) ∧ ∀ h2006 : ah_T, h2006 = ah_new h2004 40 60 60 → ah_ext h2004 h2006 → ah_liv h2004 → ah_R h2006 a0 85 = 0 ∧ ∀ h2068 : ah_T, h2068 = ah_wR h2006 a0 85 (ah_sz h2004) → ah_ext h2006 h2068 → (1 ≤ ah_rc h2068 ∧ 520 ≤ ah_rs h2068) ∧ ∀ h2070 : ah_T, h2070 = ah_new h2068 40 520 520 → ah_ext h2068 h2070 → ah_liv h2068 → ah_R h2070 a0 86 = 0 ∧ ∀ h2133 : ah_T, h2133 = ah_wR h2070 a0 86 (ah_sz h2068) → ah_ext h2070 h2133 → (1 ≤ ah_rc h2133 ∧ 200 ≤ ah_rs h2133) ∧ ∀ h2135 : ah_T, h2135 = ah_new h2133 44 200 200 → ah_ext h2133 h2135 → ah_liv h2133 → ah_R h2135 a0 87 = 0 ∧ ∀ h2199 : ah_T, h2199 = ah_wR h2135 a0 87 (ah_sz h2133) → ah_ext h2135 h2199 → ∀ h2200 : ah_T, h2200 = ah_wI h2199 a0 89 (10 : Int32) → ah_ext h2199 h2200 → ∀ h2201 : ah_T, h2201 = ah_wI h2200 a0 90 (2 : Int32) → ah_ext h2200 h2201 → (1 ≤ ah_rc h2201 ∧ 20 ≤ ah_rs h2201) ∧ ∀ h2203 : ah_T, h2203 = ah_new h2201 40 20 20 → ah_ext h2201 h2203 → ah_liv h2201 → ah_R h2203 a0 91 = 0 ∧ ∀ h2268 : ah_T, h2268 = ah_wR h2203 a0 91 (ah_sz h2201) → ah_ext h2203 h2268 → (1 ≤ ah_rc h2268 ∧ 6 ≤ ah_rs h2268) ∧ ∀ h2270 : ah_T, h2270 = ah_new h2268 40 6 6 → ah_ext h2268 h2270 → ah_liv h2268 → ah_R h2270 a0 92 = 0 ∧ ∀ h2336 : ah_T, h2336 = ah_wR h2270 a0 92 (ah_sz h2268) → ah_ext h2270 h2336 → (1 ≤ ah_rc h2336 ∧ 6 ≤ ah_rs h2336) ∧ ∀ h2338 : ah_T, h2338 = ah_new h2336 41 6 6 → ah_ext h2336 h2338 → ah_liv h2336 → ah_R h2338 a0 93 = 0 ∧ ∀ h2405 : ah_T, h2405 = ah_wR h2338 a0 93 (ah_sz h2336) → ah_ext h2338 h2405 → (1 ≤ ah_rc h2405 ∧ 6 ≤ ah_rs h2405) ∧ ∀ h2407 : ah_T, h2407 = ah_new h2405 41 6 6 → ah_ext h2405 h2407 → ah_liv h2405 → ah_R h2407 a0 94 = 0 ∧ ∀ h2475 : ah_T, h2475 = ah_wR h2407 a0 94 (ah_sz h2405) → ah_ext h2407 h2475 → (1 ≤ ah_rc h2475 ∧ 20 ≤ ah_rs h2475) ∧ ∀ h2477 : ah_T, h2477 = ah_new h2475 41 20 20 → ah_ext h2475 h2477 → ah_liv h2475 → ah_R h2477 a0 95 = 0 ∧ ∀ h2546 : ah_T, h2546 = ah_wR h2477 a0 95 (ah_sz h2475) → ah_ext h2477 h2546 → (1 ≤ ah_rc h2546 ∧ 8 ≤ ah_rs h2546) ∧ ∀ h2548 : ah_T, h2548 = ah_new h2546 40 8 8 → ah_ext h2546 h2548 → ah_liv h2546 → ah_R h2548 a0 96 = 0 ∧ ∀ h2618 : ah_T, h2618 = ah_wR h2548 a0 96 (ah_sz h2546) → ah_ext h2548 h2618 → (1 ≤ ah_rc h2618 ∧ 8 ≤ ah_rs h2618) ∧ ∀ h2620 : ah_T, h2620 = ah_new h2618 40 8 8 → ah_ext h2618 h2620 → ah_liv h2618 → ah_R h2620 a0 97 = 0 ∧ ∀ h2691 : ah_T, h2691 = ah_wR h2620 a0 97 (ah_sz h2618) → ah_ext h2620 h2691 → (1 ≤ ah_rc h2691 ∧ 20 ≤ ah_rs h2691) ∧ ∀ h2693 : ah_T, h2693 = ah_new h2691 40 20 20 → ah_ext h2691 h2693 → ah_liv h2691 → ah_R h2693 a0 98 = 0 ∧ ∀ h2765 : ah_T, h2765 = ah_wR h2693 a0 98 (ah_sz h2691) → ah_ext h2693 h2765 → (1 ≤ ah_rc h2765 ∧ 5376 ≤ ah_rs h2765) ∧ ∀ h2767 : ah_T, h2767 = ah_new h2765 40 5376 5376 → ah_ext h2765 h2767 → ah_liv h2765 → ah_R h2767 a0 99 = 0 ∧ ∀ h2840 : ah_T, h2840 = ah_wR h2767 a0 99 (ah_sz h2765) → ah_ext h2767 h2840 → (1 ≤ ah_rc h2840 ∧ 5 ≤ ah_rs h2840) ∧ ∀ h2842 : ah_T, h2842 = ah_new h2840 40 5 5 → ah_ext h2840 h2842 → ah_liv h2840 → ah_R h2842 a0 100 = 0 ∧ ∀ h2916 : ah_T, h2916 = ah_wR h2842 a0 100 (ah_sz h2840) → ah_ext h2842 h2916 → (1 ≤ ah_rc h2916 ∧ 4 ≤ ah_rs h2916) ∧ ∀ h2918 : ah_T, h2918 = ah_new h2916 40 4 4 → ah_ext h2916 h2918 → ah_liv h2916 → ah_R h2918 a0 101 = 0 ∧ ∀ h2993 : ah_T, h2993 = ah_wR h2918 a0 101 (ah_sz h2916) → ah_ext h2918 h2993 → (1 ≤ ah_rc h2993 ∧ 20 ≤ ah_rs h2993) ∧ ∀ h2995 : ah_T, h2995 = ah_new h2993 40 20 20 → ah_ext h2993 h2995 → ah_liv h2993 → ah_R h2995 a0 102 = 0 ∧ ∀ h3071 : ah_T, h3071 = ah_wR h2995 a0 102 (ah_sz h2993) → ah_ext h2995 h3071 → (1 ≤ ah_rc h3071 ∧ 20 ≤ ah_rs h3071) ∧ ∀ h3073 : ah_T, h3073 = ah_new h3071 40 20 20 → ah_ext h3071 h3073 → ah_liv h3071 → ah_R h3073 a0 103 = 0 ∧ ∀ h3150 : ah_T, h3150 = ah_wR h3073 a0 103 (ah_sz h3071) → ah_ext h3073 h3150 → (1 ≤ ah_rc h3150 ∧ 11 ≤ ah_rs h3150) ∧ ∀ h3152 : ah_T, h3152 = ah_new h3150 40 11 11 → ah_ext h3150 h3152 → ah_liv h3150 → ah_R h3152 a0 104 = 0 ∧ ∀ h3230 : ah_T, h3230 = ah_wR h3152 a0 104 (ah_sz h3150) → ah_ext h3152 h3230 → (1 ≤ ah_rc h3230 ∧ 11 ≤ ah_rs h3230) ∧ ∀ h3232 : ah_T, h3232 = ah_new h3230 40 11 11 → ah_ext h3230 h3232 → ah_liv h3230 → ah_R h3232 a0 105 = 0 ∧ ∀ h3311 : ah_T, h3311 = ah_wR h3232 a0 105 (ah_sz h3230) → ah_ext h3232 h3311 → (1 ≤ ah_rc h3311 ∧ 8 ≤ ah_rs h3311) ∧ ∀ h3313 : ah_T, h3313 = ah_new h3311 40 8 8 → ah_ext h3311 h3313 → ah_liv h3311 → ah_R h3313 a0 106 = 0 ∧ ∀ h3393 : ah_T, h3393 = ah_wR h3313 a0 106 (ah_sz h3311) → ah_ext h3313 h3393 → MX G mi_X8_init (d + 1) 648 [some (rv a0), some (iv (0 : Int32))] [] h3393 Q E) : MX G mi_X8_init (d + 1) 0 [some (rv a0), none] [] h Q E := by
  refine mx_aload_n dX8_init_0 rfl rfl ?_
  obtain ⟨k1, H⟩ := H
  refine mx_objInit q1626 qobj1 qobj2 dX8_init_1 (Nat.le_of_ble_eq_true rfl) k1 ?_
  refine mx_aload_n dX8_init_4 rfl rfl ?_
  refine mx_iconst dX8_init_5 ic_4 ?_
  obtain ⟨k2, H⟩ := H
  refine mx_newa 0 rfl (by decide) q205 dX8_init_6 cn_4 (by decide) k2.1 k2.2 (by decide) (fun x_ lv_ => ?_)
  refine mx_nmN x_ lv_ (fun h3 eh3 Xh3 lv_ => ?_)
  have H := H h3 eh3 Xh3 lv_
  have k4 : ah_kd h3 (ah_sz h) = 40 := by rw [eh3]; exact if_pos rfl
  obtain ⟨k5, H⟩ := H
  obtain ⟨k6, H⟩ := H
  refine mx_putA 8 2 (ref := "PrairiePoolModel") cl_8 (Nat.le_of_ble_eq_true rfl) (Or.inl q1629) (Or.inl rfl) dX8_init_8 (Or.inr ⟨rfl, rfl, rfl, q1629⟩) rfl (Or.inr k6) k5 ?_
  refine mx_nmR (ah_ext.wR (Or.inr (Or.inl k6))) (fun h7 eh7 Xh7 Kh7 Lh7 => ?_)
  have H := H h7 eh7 Xh7
  refine mx_aload_n dX8_init_11 rfl rfl ?_
  refine mx_iconst dX8_init_12 ic_4 ?_
  obtain ⟨k8, H⟩ := H
  refine mx_newa 0 rfl (by decide) q205 dX8_init_13 cn_4 (by decide) k8.1 k8.2 (by decide) (fun x_ lv_ => ?_)
  refine mx_nmN x_ lv_ (fun h9 eh9 Xh9 lv_ => ?_)
  have H := H h9 eh9 Xh9 lv_
  have k10 := Xh9.kd ((ma_kde Kh7 (k4)))
  have k11 := Xh9.kd ((ma_kde Kh7 (k5)))
  have k12 : ah_kd h9 (ah_sz h7) = 40 := by rw [eh9]; exact if_pos rfl
  obtain ⟨k13, H⟩ := H
  refine mx_putA 8 3 (ref := "PrairiePoolModel") cl_8 (Nat.le_of_ble_eq_true rfl) (Or.inl q1630) (Or.inl rfl) dX8_init_15 (Or.inr ⟨rfl, rfl, rfl, q1630⟩) rfl (Or.inr k13) k11 ?_
  refine mx_nmR (ah_ext.wR (Or.inr (Or.inl k13))) (fun h14 eh14 Xh14 Kh14 Lh14 => ?_)
  have H := H h14 eh14 Xh14
  refine mx_aload_n dX8_init_18 rfl rfl ?_
  refine mx_sipush dX8_init_19 is_160 ?_
  obtain ⟨k15, H⟩ := H
  refine mx_newa 1 rfl (by decide) q206 dX8_init_22 cn_160 (by decide) k15.1 k15.2 (by decide) (fun x_ lv_ => ?_)
  refine mx_nmN x_ lv_ (fun h16 eh16 Xh16 lv_ => ?_)
  have H := H h16 eh16 Xh16 lv_
  have k17 := Xh16.kd ((ma_kde Kh14 (k10)))
  have k18 := Xh16.kd ((ma_kde Kh14 (k11)))
  have k19 := Xh16.kd ((ma_kde Kh14 (k12)))
  have k20 : ah_kd h16 (ah_sz h14) = 41 := by rw [eh16]; exact if_pos rfl
  obtain ⟨k21, H⟩ := H
  refine mx_putA 8 4 (ref := "PrairiePoolModel") cl_8 (Nat.le_of_ble_eq_true rfl) (Or.inl q1631) (Or.inl rfl) dX8_init_24 (Or.inr ⟨rfl, rfl, rfl, q1631⟩) rfl (Or.inr k21) k18 ?_
  refine mx_nmR (ah_ext.wR (Or.inr (Or.inl k21))) (fun h22 eh22 Xh22 Kh22 Lh22 => ?_)
  have H := H h22 eh22 Xh22
  refine mx_aload_n dX8_init_27 rfl rfl ?_
  refine mx_bipush dX8_init_28 ib_20 ?_
  obtain ⟨k23, H⟩ := H
  refine mx_newa 0 rfl (by decide) q205 dX8_init_30 cn_20 (by decide) k23.1 k23.2 (by decide) (fun x_ lv_ => ?_)
  refine mx_nmN x_ lv_ (fun h24 eh24 Xh24 lv_ => ?_)
  have H := H h24 eh24 Xh24 lv_
  have k25 := Xh24.kd ((ma_kde Kh22 (k17)))
  have k26 := Xh24.kd ((ma_kde Kh22 (k18)))
  have k27 := Xh24.kd ((ma_kde Kh22 (k19)))
  have k28 := Xh24.kd ((ma_kde Kh22 (k20)))
  have k29 : ah_kd h24 (ah_sz h22) = 40 := by rw [eh24]; exact if_pos rfl
  obtain ⟨k30, H⟩ := H
  refine mx_putA 8 11 (ref := "PrairiePoolModel") cl_8 (Nat.le_of_ble_eq_true rfl) (Or.inl q1638) (Or.inl rfl) dX8_init_32 (Or.inr ⟨rfl, rfl, rfl, q1638⟩) rfl (Or.inr k30) k26 ?_
  refine mx_nmR (ah_ext.wR (Or.inr (Or.inl k30))) (fun h31 eh31 Xh31 Kh31 Lh31 => ?_)
  have H := H h31 eh31 Xh31
  refine mx_aload_n dX8_init_35 rfl rfl ?_
  refine mx_bipush dX8_init_36 ib_20 ?_
  obtain ⟨k32, H⟩ := H
  refine mx_newa 0 rfl (by decide) q205 dX8_init_38 cn_20 (by decide) k32.1 k32.2 (by decide) (fun x_ lv_ => ?_)
  refine mx_nmN x_ lv_ (fun h33 eh33 Xh33 lv_ => ?_)
  have H := H h33 eh33 Xh33 lv_
  have k34 := Xh33.kd ((ma_kde Kh31 (k25)))
  have k35 := Xh33.kd ((ma_kde Kh31 (k26)))
  have k36 := Xh33.kd ((ma_kde Kh31 (k27)))
  have k37 := Xh33.kd ((ma_kde Kh31 (k28)))
  have k38 := Xh33.kd ((ma_kde Kh31 (k29)))
  have k39 : ah_kd h33 (ah_sz h31) = 40 := by rw [eh33]; exact if_pos rfl
  obtain ⟨k40, H⟩ := H
  refine mx_putA 8 12 (ref := "PrairiePoolModel") cl_8 (Nat.le_of_ble_eq_true rfl) (Or.inl q1639) (Or.inl rfl) dX8_init_40 (Or.inr ⟨rfl, rfl, rfl, q1639⟩) rfl (Or.inr k40) k35 ?_
  refine mx_nmR (ah_ext.wR (Or.inr (Or.inl k40))) (fun h41 eh41 Xh41 Kh41 Lh41 => ?_)
  have H := H h41 eh41 Xh41
  refine mx_aload_n dX8_init_43 rfl rfl ?_
  refine mx_bipush dX8_init_44 ib_20 ?_
  obtain ⟨k42, H⟩ := H
  refine mx_newa 0 rfl (by decide) q205 dX8_init_46 cn_20 (by decide) k42.1 k42.2 (by decide) (fun x_ lv_ => ?_)
  refine mx_nmN x_ lv_ (fun h43 eh43 Xh43 lv_ => ?_)
  have H := H h43 eh43 Xh43 lv_
  have k44 := Xh43.kd ((ma_kde Kh41 (k34)))
  have k45 := Xh43.kd ((ma_kde Kh41 (k35)))
  have k46 := Xh43.kd ((ma_kde Kh41 (k36)))
  have k47 := Xh43.kd ((ma_kde Kh41 (k37)))
  have k48 := Xh43.kd ((ma_kde Kh41 (k38)))
  have k49 := Xh43.kd ((ma_kde Kh41 (k39)))
  have k50 : ah_kd h43 (ah_sz h41) = 40 := by rw [eh43]; exact if_pos rfl
  obtain ⟨k51, H⟩ := H
  refine mx_putA 8 13 (ref := "PrairiePoolModel") cl_8 (Nat.le_of_ble_eq_true rfl) (Or.inl q1640) (Or.inl rfl) dX8_init_48 (Or.inr ⟨rfl, rfl, rfl, q1640⟩) rfl (Or.inr k51) k45 ?_
  refine mx_nmR (ah_ext.wR (Or.inr (Or.inl k51))) (fun h52 eh52 Xh52 Kh52 Lh52 => ?_)
  have H := H h52 eh52 Xh52
  refine mx_aload_n dX8_init_51 rfl rfl ?_
  refine mx_bipush dX8_init_52 ib_8 ?_
  obtain ⟨k53, H⟩ := H
  refine mx_newa 0 rfl (by decide) q205 dX8_init_54 cn_8 (by decide) k53.1 k53.2 (by decide) (fun x_ lv_ => ?_)
  refine mx_nmN x_ lv_ (fun h54 eh54 Xh54 lv_ => ?_)
  have H := H h54 eh54 Xh54 lv_
  have k55 := Xh54.kd ((ma_kde Kh52 (k44)))
  have k56 := Xh54.kd ((ma_kde Kh52 (k45)))
  have k57 := Xh54.kd ((ma_kde Kh52 (k46)))
  have k58 := Xh54.kd ((ma_kde Kh52 (k47)))
  have k59 := Xh54.kd ((ma_kde Kh52 (k48)))
  have k60 := Xh54.kd ((ma_kde Kh52 (k49)))
  have k61 := Xh54.kd ((ma_kde Kh52 (k50)))
  have k62 : ah_kd h54 (ah_sz h52) = 40 := by rw [eh54]; exact if_pos rfl
  obtain ⟨k63, H⟩ := H
  refine mx_putA 8 14 (ref := "PrairiePoolModel") cl_8 (Nat.le_of_ble_eq_true rfl) (Or.inl q1641) (Or.inl rfl) dX8_init_56 (Or.inr ⟨rfl, rfl, rfl, q1641⟩) rfl (Or.inr k63) k56 ?_
  refine mx_nmR (ah_ext.wR (Or.inr (Or.inl k63))) (fun h64 eh64 Xh64 Kh64 Lh64 => ?_)
  have H := H h64 eh64 Xh64
  refine mx_aload_n dX8_init_59 rfl rfl ?_
  refine mx_bipush dX8_init_60 ib_8 ?_
  obtain ⟨k65, H⟩ := H
  refine mx_newa 0 rfl (by decide) q205 dX8_init_62 cn_8 (by decide) k65.1 k65.2 (by decide) (fun x_ lv_ => ?_)
  refine mx_nmN x_ lv_ (fun h66 eh66 Xh66 lv_ => ?_)
  have H := H h66 eh66 Xh66 lv_
  have k67 := Xh66.kd ((ma_kde Kh64 (k55)))
  have k68 := Xh66.kd ((ma_kde Kh64 (k56)))
  have k69 := Xh66.kd ((ma_kde Kh64 (k57)))
  have k70 := Xh66.kd ((ma_kde Kh64 (k58)))
  have k71 := Xh66.kd ((ma_kde Kh64 (k59)))
  have k72 := Xh66.kd ((ma_kde Kh64 (k60)))
  have k73 := Xh66.kd ((ma_kde Kh64 (k61)))
  have k74 := Xh66.kd ((ma_kde Kh64 (k62)))
  have k75 : ah_kd h66 (ah_sz h64) = 40 := by rw [eh66]; exact if_pos rfl
  obtain ⟨k76, H⟩ := H
  refine mx_putA 8 15 (ref := "PrairiePoolModel") cl_8 (Nat.le_of_ble_eq_true rfl) (Or.inl q1642) (Or.inl rfl) dX8_init_64 (Or.inr ⟨rfl, rfl, rfl, q1642⟩) rfl (Or.inr k76) k68 ?_
  refine mx_nmR (ah_ext.wR (Or.inr (Or.inl k76))) (fun h77 eh77 Xh77 Kh77 Lh77 => ?_)
  have H := H h77 eh77 Xh77
  refine mx_aload_n dX8_init_67 rfl rfl ?_
  refine mx_bipush dX8_init_68 ib_120 ?_
  obtain ⟨k78, H⟩ := H
  refine mx_newa 0 rfl (by decide) q205 dX8_init_70 cn_120 (by decide) k78.1 k78.2 (by decide) (fun x_ lv_ => ?_)
  refine mx_nmN x_ lv_ (fun h79 eh79 Xh79 lv_ => ?_)
  have H := H h79 eh79 Xh79 lv_
  have k80 := Xh79.kd ((ma_kde Kh77 (k67)))
  have k81 := Xh79.kd ((ma_kde Kh77 (k68)))
  have k82 := Xh79.kd ((ma_kde Kh77 (k69)))
  have k83 := Xh79.kd ((ma_kde Kh77 (k70)))
  have k84 := Xh79.kd ((ma_kde Kh77 (k71)))
  have k85 := Xh79.kd ((ma_kde Kh77 (k72)))
  have k86 := Xh79.kd ((ma_kde Kh77 (k73)))
  have k87 := Xh79.kd ((ma_kde Kh77 (k74)))
  have k88 := Xh79.kd ((ma_kde Kh77 (k75)))
  have k89 : ah_kd h79 (ah_sz h77) = 40 := by rw [eh79]; exact if_pos rfl
  obtain ⟨k90, H⟩ := H
  refine mx_putA 8 16 (ref := "PrairiePoolModel") cl_8 (Nat.le_of_ble_eq_true rfl) (Or.inl q1643) (Or.inl rfl) dX8_init_72 (Or.inr ⟨rfl, rfl, rfl, q1643⟩) rfl (Or.inr k90) k81 ?_
  refine mx_nmR (ah_ext.wR (Or.inr (Or.inl k90))) (fun h91 eh91 Xh91 Kh91 Lh91 => ?_)
  have H := H h91 eh91 Xh91
  refine mx_aload_n dX8_init_75 rfl rfl ?_
  refine mx_bipush dX8_init_76 ib_120 ?_
  obtain ⟨k92, H⟩ := H
  refine mx_newa 0 rfl (by decide) q205 dX8_init_78 cn_120 (by decide) k92.1 k92.2 (by decide) (fun x_ lv_ => ?_)
  refine mx_nmN x_ lv_ (fun h93 eh93 Xh93 lv_ => ?_)
  have H := H h93 eh93 Xh93 lv_
  have k94 := Xh93.kd ((ma_kde Kh91 (k80)))
  have k95 := Xh93.kd ((ma_kde Kh91 (k81)))
  have k96 := Xh93.kd ((ma_kde Kh91 (k82)))
  have k97 := Xh93.kd ((ma_kde Kh91 (k83)))
  have k98 := Xh93.kd ((ma_kde Kh91 (k84)))
  have k99 := Xh93.kd ((ma_kde Kh91 (k85)))
  have k100 := Xh93.kd ((ma_kde Kh91 (k86)))
  have k101 := Xh93.kd ((ma_kde Kh91 (k87)))
  have k102 := Xh93.kd ((ma_kde Kh91 (k88)))
  have k103 := Xh93.kd ((ma_kde Kh91 (k89)))
  have k104 : ah_kd h93 (ah_sz h91) = 40 := by rw [eh93]; exact if_pos rfl
  obtain ⟨k105, H⟩ := H
  refine mx_putA 8 17 (ref := "PrairiePoolModel") cl_8 (Nat.le_of_ble_eq_true rfl) (Or.inl q1644) (Or.inl rfl) dX8_init_80 (Or.inr ⟨rfl, rfl, rfl, q1644⟩) rfl (Or.inr k105) k95 ?_
  refine mx_nmR (ah_ext.wR (Or.inr (Or.inl k105))) (fun h106 eh106 Xh106 Kh106 Lh106 => ?_)
  have H := H h106 eh106 Xh106
  refine mx_aload_n dX8_init_83 rfl rfl ?_
  refine mx_bipush dX8_init_84 ib_120 ?_
  obtain ⟨k107, H⟩ := H
  refine mx_newa 0 rfl (by decide) q205 dX8_init_86 cn_120 (by decide) k107.1 k107.2 (by decide) (fun x_ lv_ => ?_)
  refine mx_nmN x_ lv_ (fun h108 eh108 Xh108 lv_ => ?_)
  have H := H h108 eh108 Xh108 lv_
  have k109 := Xh108.kd ((ma_kde Kh106 (k94)))
  have k110 := Xh108.kd ((ma_kde Kh106 (k95)))
  have k111 := Xh108.kd ((ma_kde Kh106 (k96)))
  have k112 := Xh108.kd ((ma_kde Kh106 (k97)))
  have k113 := Xh108.kd ((ma_kde Kh106 (k98)))
  have k114 := Xh108.kd ((ma_kde Kh106 (k99)))
  have k115 := Xh108.kd ((ma_kde Kh106 (k100)))
  have k116 := Xh108.kd ((ma_kde Kh106 (k101)))
  have k117 := Xh108.kd ((ma_kde Kh106 (k102)))
  have k118 := Xh108.kd ((ma_kde Kh106 (k103)))
  have k119 := Xh108.kd ((ma_kde Kh106 (k104)))
  have k120 : ah_kd h108 (ah_sz h106) = 40 := by rw [eh108]; exact if_pos rfl
  obtain ⟨k121, H⟩ := H
  refine mx_putA 8 18 (ref := "PrairiePoolModel") cl_8 (Nat.le_of_ble_eq_true rfl) (Or.inl q1645) (Or.inl rfl) dX8_init_88 (Or.inr ⟨rfl, rfl, rfl, q1645⟩) rfl (Or.inr k121) k110 ?_
  refine mx_nmR (ah_ext.wR (Or.inr (Or.inl k121))) (fun h122 eh122 Xh122 Kh122 Lh122 => ?_)
  have H := H h122 eh122 Xh122
  refine mx_aload_n dX8_init_91 rfl rfl ?_
  refine mx_bipush dX8_init_92 ib_120 ?_
  obtain ⟨k123, H⟩ := H
  refine mx_newa 0 rfl (by decide) q205 dX8_init_94 cn_120 (by decide) k123.1 k123.2 (by decide) (fun x_ lv_ => ?_)
  refine mx_nmN x_ lv_ (fun h124 eh124 Xh124 lv_ => ?_)
  have H := H h124 eh124 Xh124 lv_
  have k125 := Xh124.kd ((ma_kde Kh122 (k109)))
  have k126 := Xh124.kd ((ma_kde Kh122 (k110)))
  have k127 := Xh124.kd ((ma_kde Kh122 (k111)))
  have k128 := Xh124.kd ((ma_kde Kh122 (k112)))
  have k129 := Xh124.kd ((ma_kde Kh122 (k113)))
  have k130 := Xh124.kd ((ma_kde Kh122 (k114)))
  have k131 := Xh124.kd ((ma_kde Kh122 (k115)))
  have k132 := Xh124.kd ((ma_kde Kh122 (k116)))
  have k133 := Xh124.kd ((ma_kde Kh122 (k117)))
  have k134 := Xh124.kd ((ma_kde Kh122 (k118)))
  have k135 := Xh124.kd ((ma_kde Kh122 (k119)))
  have k136 := Xh124.kd ((ma_kde Kh122 (k120)))
  have k137 : ah_kd h124 (ah_sz h122) = 40 := by rw [eh124]; exact if_pos rfl
  obtain ⟨k138, H⟩ := H
  refine mx_putA 8 19 (ref := "PrairiePoolModel") cl_8 (Nat.le_of_ble_eq_true rfl) (Or.inl q1646) (Or.inl rfl) dX8_init_96 (Or.inr ⟨rfl, rfl, rfl, q1646⟩) rfl (Or.inr k138) k126 ?_
  refine mx_nmR (ah_ext.wR (Or.inr (Or.inl k138))) (fun h139 eh139 Xh139 Kh139 Lh139 => ?_)
  have H := H h139 eh139 Xh139
  refine mx_aload_n dX8_init_99 rfl rfl ?_
  refine mx_bipush dX8_init_100 ib_120 ?_
  obtain ⟨k140, H⟩ := H
  refine mx_newa 0 rfl (by decide) q205 dX8_init_102 cn_120 (by decide) k140.1 k140.2 (by decide) (fun x_ lv_ => ?_)
  refine mx_nmN x_ lv_ (fun h141 eh141 Xh141 lv_ => ?_)
  have H := H h141 eh141 Xh141 lv_
  have k142 := Xh141.kd ((ma_kde Kh139 (k125)))
  have k143 := Xh141.kd ((ma_kde Kh139 (k126)))
  have k144 := Xh141.kd ((ma_kde Kh139 (k127)))
  have k145 := Xh141.kd ((ma_kde Kh139 (k128)))
  have k146 := Xh141.kd ((ma_kde Kh139 (k129)))
  have k147 := Xh141.kd ((ma_kde Kh139 (k130)))
  have k148 := Xh141.kd ((ma_kde Kh139 (k131)))
  have k149 := Xh141.kd ((ma_kde Kh139 (k132)))
  have k150 := Xh141.kd ((ma_kde Kh139 (k133)))
  have k151 := Xh141.kd ((ma_kde Kh139 (k134)))
  have k152 := Xh141.kd ((ma_kde Kh139 (k135)))
  have k153 := Xh141.kd ((ma_kde Kh139 (k136)))
  have k154 := Xh141.kd ((ma_kde Kh139 (k137)))
  have k155 : ah_kd h141 (ah_sz h139) = 40 := by rw [eh141]; exact if_pos rfl
  obtain ⟨k156, H⟩ := H
  refine mx_putA 8 20 (ref := "PrairiePoolModel") cl_8 (Nat.le_of_ble_eq_true rfl) (Or.inl q1647) (Or.inl rfl) dX8_init_104 (Or.inr ⟨rfl, rfl, rfl, q1647⟩) rfl (Or.inr k156) k143 ?_
  refine mx_nmR (ah_ext.wR (Or.inr (Or.inl k156))) (fun h157 eh157 Xh157 Kh157 Lh157 => ?_)
  have H := H h157 eh157 Xh157
  refine mx_aload_n dX8_init_107 rfl rfl ?_
  refine mx_bipush dX8_init_108 ib_120 ?_
  obtain ⟨k158, H⟩ := H
  refine mx_newa 0 rfl (by decide) q205 dX8_init_110 cn_120 (by decide) k158.1 k158.2 (by decide) (fun x_ lv_ => ?_)
  refine mx_nmN x_ lv_ (fun h159 eh159 Xh159 lv_ => ?_)
  have H := H h159 eh159 Xh159 lv_
  have k160 := Xh159.kd ((ma_kde Kh157 (k142)))
  have k161 := Xh159.kd ((ma_kde Kh157 (k143)))
  have k162 := Xh159.kd ((ma_kde Kh157 (k144)))
  have k163 := Xh159.kd ((ma_kde Kh157 (k145)))
  have k164 := Xh159.kd ((ma_kde Kh157 (k146)))
  have k165 := Xh159.kd ((ma_kde Kh157 (k147)))
  have k166 := Xh159.kd ((ma_kde Kh157 (k148)))
  have k167 := Xh159.kd ((ma_kde Kh157 (k149)))
  have k168 := Xh159.kd ((ma_kde Kh157 (k150)))
  have k169 := Xh159.kd ((ma_kde Kh157 (k151)))
  have k170 := Xh159.kd ((ma_kde Kh157 (k152)))
  have k171 := Xh159.kd ((ma_kde Kh157 (k153)))
  have k172 := Xh159.kd ((ma_kde Kh157 (k154)))
  have k173 := Xh159.kd ((ma_kde Kh157 (k155)))
  have k174 : ah_kd h159 (ah_sz h157) = 40 := by rw [eh159]; exact if_pos rfl
  obtain ⟨k175, H⟩ := H
  refine mx_putA 8 21 (ref := "PrairiePoolModel") cl_8 (Nat.le_of_ble_eq_true rfl) (Or.inl q1648) (Or.inl rfl) dX8_init_112 (Or.inr ⟨rfl, rfl, rfl, q1648⟩) rfl (Or.inr k175) k161 ?_
  refine mx_nmR (ah_ext.wR (Or.inr (Or.inl k175))) (fun h176 eh176 Xh176 Kh176 Lh176 => ?_)
  have H := H h176 eh176 Xh176
  refine mx_aload_n dX8_init_115 rfl rfl ?_
  refine mx_bipush dX8_init_116 ib_120 ?_
  obtain ⟨k177, H⟩ := H
  refine mx_newa 0 rfl (by decide) q205 dX8_init_118 cn_120 (by decide) k177.1 k177.2 (by decide) (fun x_ lv_ => ?_)
  refine mx_nmN x_ lv_ (fun h178 eh178 Xh178 lv_ => ?_)
  have H := H h178 eh178 Xh178 lv_
  have k179 := Xh178.kd ((ma_kde Kh176 (k160)))
  have k180 := Xh178.kd ((ma_kde Kh176 (k161)))
  have k181 := Xh178.kd ((ma_kde Kh176 (k162)))
  have k182 := Xh178.kd ((ma_kde Kh176 (k163)))
  have k183 := Xh178.kd ((ma_kde Kh176 (k164)))
  have k184 := Xh178.kd ((ma_kde Kh176 (k165)))
  have k185 := Xh178.kd ((ma_kde Kh176 (k166)))
  have k186 := Xh178.kd ((ma_kde Kh176 (k167)))
  have k187 := Xh178.kd ((ma_kde Kh176 (k168)))
  have k188 := Xh178.kd ((ma_kde Kh176 (k169)))
  have k189 := Xh178.kd ((ma_kde Kh176 (k170)))
  have k190 := Xh178.kd ((ma_kde Kh176 (k171)))
  have k191 := Xh178.kd ((ma_kde Kh176 (k172)))
  have k192 := Xh178.kd ((ma_kde Kh176 (k173)))
  have k193 := Xh178.kd ((ma_kde Kh176 (k174)))
  have k194 : ah_kd h178 (ah_sz h176) = 40 := by rw [eh178]; exact if_pos rfl
  obtain ⟨k195, H⟩ := H
  refine mx_putA 8 22 (ref := "PrairiePoolModel") cl_8 (Nat.le_of_ble_eq_true rfl) (Or.inl q1649) (Or.inl rfl) dX8_init_120 (Or.inr ⟨rfl, rfl, rfl, q1649⟩) rfl (Or.inr k195) k180 ?_
  refine mx_nmR (ah_ext.wR (Or.inr (Or.inl k195))) (fun h196 eh196 Xh196 Kh196 Lh196 => ?_)
  have H := H h196 eh196 Xh196
  refine mx_aload_n dX8_init_123 rfl rfl ?_
  refine mx_bipush dX8_init_124 ib_120 ?_
  obtain ⟨k197, H⟩ := H
  refine mx_newa 0 rfl (by decide) q205 dX8_init_126 cn_120 (by decide) k197.1 k197.2 (by decide) (fun x_ lv_ => ?_)
  refine mx_nmN x_ lv_ (fun h198 eh198 Xh198 lv_ => ?_)
  have H := H h198 eh198 Xh198 lv_
  have k199 := Xh198.kd ((ma_kde Kh196 (k179)))
  have k200 := Xh198.kd ((ma_kde Kh196 (k180)))
  have k201 := Xh198.kd ((ma_kde Kh196 (k181)))
  have k202 := Xh198.kd ((ma_kde Kh196 (k182)))
  have k203 := Xh198.kd ((ma_kde Kh196 (k183)))
  have k204 := Xh198.kd ((ma_kde Kh196 (k184)))
  have k205 := Xh198.kd ((ma_kde Kh196 (k185)))
  have k206 := Xh198.kd ((ma_kde Kh196 (k186)))
  have k207 := Xh198.kd ((ma_kde Kh196 (k187)))
  have k208 := Xh198.kd ((ma_kde Kh196 (k188)))
  have k209 := Xh198.kd ((ma_kde Kh196 (k189)))
  have k210 := Xh198.kd ((ma_kde Kh196 (k190)))
  have k211 := Xh198.kd ((ma_kde Kh196 (k191)))
  have k212 := Xh198.kd ((ma_kde Kh196 (k192)))
  have k213 := Xh198.kd ((ma_kde Kh196 (k193)))
  have k214 := Xh198.kd ((ma_kde Kh196 (k194)))
  have k215 : ah_kd h198 (ah_sz h196) = 40 := by rw [eh198]; exact if_pos rfl
  obtain ⟨k216, H⟩ := H
  refine mx_putA 8 23 (ref := "PrairiePoolModel") cl_8 (Nat.le_of_ble_eq_true rfl) (Or.inl q1650) (Or.inl rfl) dX8_init_128 (Or.inr ⟨rfl, rfl, rfl, q1650⟩) rfl (Or.inr k216) k200 ?_
  refine mx_nmR (ah_ext.wR (Or.inr (Or.inl k216))) (fun h217 eh217 Xh217 Kh217 Lh217 => ?_)
  have H := H h217 eh217 Xh217
  refine mx_aload_n dX8_init_131 rfl rfl ?_
  refine mx_bipush dX8_init_132 ib_120 ?_
  obtain ⟨k218, H⟩ := H
  refine mx_newa 0 rfl (by decide) q205 dX8_init_134 cn_120 (by decide) k218.1 k218.2 (by decide) (fun x_ lv_ => ?_)
  refine mx_nmN x_ lv_ (fun h219 eh219 Xh219 lv_ => ?_)
  have H := H h219 eh219 Xh219 lv_
  have k220 := Xh219.kd ((ma_kde Kh217 (k199)))
  have k221 := Xh219.kd ((ma_kde Kh217 (k200)))
  have k222 := Xh219.kd ((ma_kde Kh217 (k201)))
  have k223 := Xh219.kd ((ma_kde Kh217 (k202)))
  have k224 := Xh219.kd ((ma_kde Kh217 (k203)))
  have k225 := Xh219.kd ((ma_kde Kh217 (k204)))
  have k226 := Xh219.kd ((ma_kde Kh217 (k205)))
  have k227 := Xh219.kd ((ma_kde Kh217 (k206)))
  have k228 := Xh219.kd ((ma_kde Kh217 (k207)))
  have k229 := Xh219.kd ((ma_kde Kh217 (k208)))
  have k230 := Xh219.kd ((ma_kde Kh217 (k209)))
  have k231 := Xh219.kd ((ma_kde Kh217 (k210)))
  have k232 := Xh219.kd ((ma_kde Kh217 (k211)))
  have k233 := Xh219.kd ((ma_kde Kh217 (k212)))
  have k234 := Xh219.kd ((ma_kde Kh217 (k213)))
  have k235 := Xh219.kd ((ma_kde Kh217 (k214)))
  have k236 := Xh219.kd ((ma_kde Kh217 (k215)))
  have k237 : ah_kd h219 (ah_sz h217) = 40 := by rw [eh219]; exact if_pos rfl
  obtain ⟨k238, H⟩ := H
  refine mx_putA 8 24 (ref := "PrairiePoolModel") cl_8 (Nat.le_of_ble_eq_true rfl) (Or.inl q1651) (Or.inl rfl) dX8_init_136 (Or.inr ⟨rfl, rfl, rfl, q1651⟩) rfl (Or.inr k238) k221 ?_
  refine mx_nmR (ah_ext.wR (Or.inr (Or.inl k238))) (fun h239 eh239 Xh239 Kh239 Lh239 => ?_)
  have H := H h239 eh239 Xh239
  refine mx_aload_n dX8_init_139 rfl rfl ?_
  refine mx_bipush dX8_init_140 ib_120 ?_
  obtain ⟨k240, H⟩ := H
  refine mx_newa 0 rfl (by decide) q205 dX8_init_142 cn_120 (by decide) k240.1 k240.2 (by decide) (fun x_ lv_ => ?_)
  refine mx_nmN x_ lv_ (fun h241 eh241 Xh241 lv_ => ?_)
  have H := H h241 eh241 Xh241 lv_
  have k242 := Xh241.kd ((ma_kde Kh239 (k220)))
  have k243 := Xh241.kd ((ma_kde Kh239 (k221)))
  have k244 := Xh241.kd ((ma_kde Kh239 (k222)))
  have k245 := Xh241.kd ((ma_kde Kh239 (k223)))
  have k246 := Xh241.kd ((ma_kde Kh239 (k224)))
  have k247 := Xh241.kd ((ma_kde Kh239 (k225)))
  have k248 := Xh241.kd ((ma_kde Kh239 (k226)))
  have k249 := Xh241.kd ((ma_kde Kh239 (k227)))
  have k250 := Xh241.kd ((ma_kde Kh239 (k228)))
  have k251 := Xh241.kd ((ma_kde Kh239 (k229)))
  have k252 := Xh241.kd ((ma_kde Kh239 (k230)))
  have k253 := Xh241.kd ((ma_kde Kh239 (k231)))
  have k254 := Xh241.kd ((ma_kde Kh239 (k232)))
  have k255 := Xh241.kd ((ma_kde Kh239 (k233)))
  have k256 := Xh241.kd ((ma_kde Kh239 (k234)))
  have k257 := Xh241.kd ((ma_kde Kh239 (k235)))
  have k258 := Xh241.kd ((ma_kde Kh239 (k236)))
  have k259 := Xh241.kd ((ma_kde Kh239 (k237)))
  have k260 : ah_kd h241 (ah_sz h239) = 40 := by rw [eh241]; exact if_pos rfl
  obtain ⟨k261, H⟩ := H
  refine mx_putA 8 25 (ref := "PrairiePoolModel") cl_8 (Nat.le_of_ble_eq_true rfl) (Or.inl q1652) (Or.inl rfl) dX8_init_144 (Or.inr ⟨rfl, rfl, rfl, q1652⟩) rfl (Or.inr k261) k243 ?_
  refine mx_nmR (ah_ext.wR (Or.inr (Or.inl k261))) (fun h262 eh262 Xh262 Kh262 Lh262 => ?_)
  have H := H h262 eh262 Xh262
  refine mx_aload_n dX8_init_147 rfl rfl ?_
  refine mx_bipush dX8_init_148 ib_100 ?_
  obtain ⟨k263, H⟩ := H
  refine mx_newa 0 rfl (by decide) q205 dX8_init_150 cn_100 (by decide) k263.1 k263.2 (by decide) (fun x_ lv_ => ?_)
  refine mx_nmN x_ lv_ (fun h264 eh264 Xh264 lv_ => ?_)
  have H := H h264 eh264 Xh264 lv_
  have k265 := Xh264.kd ((ma_kde Kh262 (k242)))
  have k266 := Xh264.kd ((ma_kde Kh262 (k243)))
  have k267 := Xh264.kd ((ma_kde Kh262 (k244)))
  have k268 := Xh264.kd ((ma_kde Kh262 (k245)))
  have k269 := Xh264.kd ((ma_kde Kh262 (k246)))
  have k270 := Xh264.kd ((ma_kde Kh262 (k247)))
  have k271 := Xh264.kd ((ma_kde Kh262 (k248)))
  have k272 := Xh264.kd ((ma_kde Kh262 (k249)))
  have k273 := Xh264.kd ((ma_kde Kh262 (k250)))
  have k274 := Xh264.kd ((ma_kde Kh262 (k251)))
  have k275 := Xh264.kd ((ma_kde Kh262 (k252)))
  have k276 := Xh264.kd ((ma_kde Kh262 (k253)))
  have k277 := Xh264.kd ((ma_kde Kh262 (k254)))
  have k278 := Xh264.kd ((ma_kde Kh262 (k255)))
  have k279 := Xh264.kd ((ma_kde Kh262 (k256)))
  have k280 := Xh264.kd ((ma_kde Kh262 (k257)))
  have k281 := Xh264.kd ((ma_kde Kh262 (k258)))
  have k282 := Xh264.kd ((ma_kde Kh262 (k259)))
  have k283 := Xh264.kd ((ma_kde Kh262 (k260)))
  have k284 : ah_kd h264 (ah_sz h262) = 40 := by rw [eh264]; exact if_pos rfl
  obtain ⟨k285, H⟩ := H
  refine mx_putA 8 26 (ref := "PrairiePoolModel") cl_8 (Nat.le_of_ble_eq_true rfl) (Or.inl q1653) (Or.inl rfl) dX8_init_152 (Or.inr ⟨rfl, rfl, rfl, q1653⟩) rfl (Or.inr k285) k266 ?_
  refine mx_nmR (ah_ext.wR (Or.inr (Or.inl k285))) (fun h286 eh286 Xh286 Kh286 Lh286 => ?_)
  have H := H h286 eh286 Xh286
  refine mx_aload_n dX8_init_155 rfl rfl ?_
  refine mx_bipush dX8_init_156 ib_100 ?_
  obtain ⟨k287, H⟩ := H
  refine mx_newa 0 rfl (by decide) q205 dX8_init_158 cn_100 (by decide) k287.1 k287.2 (by decide) (fun x_ lv_ => ?_)
  refine mx_nmN x_ lv_ (fun h288 eh288 Xh288 lv_ => ?_)
  have H := H h288 eh288 Xh288 lv_
  have k289 := Xh288.kd ((ma_kde Kh286 (k265)))
  have k290 := Xh288.kd ((ma_kde Kh286 (k266)))
  have k291 := Xh288.kd ((ma_kde Kh286 (k267)))
  have k292 := Xh288.kd ((ma_kde Kh286 (k268)))
  have k293 := Xh288.kd ((ma_kde Kh286 (k269)))
  have k294 := Xh288.kd ((ma_kde Kh286 (k270)))
  have k295 := Xh288.kd ((ma_kde Kh286 (k271)))
  have k296 := Xh288.kd ((ma_kde Kh286 (k272)))
  have k297 := Xh288.kd ((ma_kde Kh286 (k273)))
  have k298 := Xh288.kd ((ma_kde Kh286 (k274)))
  have k299 := Xh288.kd ((ma_kde Kh286 (k275)))
  have k300 := Xh288.kd ((ma_kde Kh286 (k276)))
  have k301 := Xh288.kd ((ma_kde Kh286 (k277)))
  have k302 := Xh288.kd ((ma_kde Kh286 (k278)))
  have k303 := Xh288.kd ((ma_kde Kh286 (k279)))
  have k304 := Xh288.kd ((ma_kde Kh286 (k280)))
  have k305 := Xh288.kd ((ma_kde Kh286 (k281)))
  have k306 := Xh288.kd ((ma_kde Kh286 (k282)))
  have k307 := Xh288.kd ((ma_kde Kh286 (k283)))
  have k308 := Xh288.kd ((ma_kde Kh286 (k284)))
  have k309 : ah_kd h288 (ah_sz h286) = 40 := by rw [eh288]; exact if_pos rfl
  obtain ⟨k310, H⟩ := H
  refine mx_putA 8 27 (ref := "PrairiePoolModel") cl_8 (Nat.le_of_ble_eq_true rfl) (Or.inl q1654) (Or.inl rfl) dX8_init_160 (Or.inr ⟨rfl, rfl, rfl, q1654⟩) rfl (Or.inr k310) k290 ?_
  refine mx_nmR (ah_ext.wR (Or.inr (Or.inl k310))) (fun h311 eh311 Xh311 Kh311 Lh311 => ?_)
  have H := H h311 eh311 Xh311
  refine mx_aload_n dX8_init_163 rfl rfl ?_
  refine mx_bipush dX8_init_164 ib_100 ?_
  obtain ⟨k312, H⟩ := H
  refine mx_newa 0 rfl (by decide) q205 dX8_init_166 cn_100 (by decide) k312.1 k312.2 (by decide) (fun x_ lv_ => ?_)
  refine mx_nmN x_ lv_ (fun h313 eh313 Xh313 lv_ => ?_)
  have H := H h313 eh313 Xh313 lv_
  have k314 := Xh313.kd ((ma_kde Kh311 (k289)))
  have k315 := Xh313.kd ((ma_kde Kh311 (k290)))
  have k316 := Xh313.kd ((ma_kde Kh311 (k291)))
  have k317 := Xh313.kd ((ma_kde Kh311 (k292)))
  have k318 := Xh313.kd ((ma_kde Kh311 (k293)))
  have k319 := Xh313.kd ((ma_kde Kh311 (k294)))
  have k320 := Xh313.kd ((ma_kde Kh311 (k295)))
  have k321 := Xh313.kd ((ma_kde Kh311 (k296)))
  have k322 := Xh313.kd ((ma_kde Kh311 (k297)))
  have k323 := Xh313.kd ((ma_kde Kh311 (k298)))
  have k324 := Xh313.kd ((ma_kde Kh311 (k299)))
  have k325 := Xh313.kd ((ma_kde Kh311 (k300)))
  have k326 := Xh313.kd ((ma_kde Kh311 (k301)))
  have k327 := Xh313.kd ((ma_kde Kh311 (k302)))
  have k328 := Xh313.kd ((ma_kde Kh311 (k303)))
  have k329 := Xh313.kd ((ma_kde Kh311 (k304)))
  have k330 := Xh313.kd ((ma_kde Kh311 (k305)))
  have k331 := Xh313.kd ((ma_kde Kh311 (k306)))
  have k332 := Xh313.kd ((ma_kde Kh311 (k307)))
  have k333 := Xh313.kd ((ma_kde Kh311 (k308)))
  have k334 := Xh313.kd ((ma_kde Kh311 (k309)))
  have k335 : ah_kd h313 (ah_sz h311) = 40 := by rw [eh313]; exact if_pos rfl
  obtain ⟨k336, H⟩ := H
  refine mx_putA 8 28 (ref := "PrairiePoolModel") cl_8 (Nat.le_of_ble_eq_true rfl) (Or.inl q1655) (Or.inl rfl) dX8_init_168 (Or.inr ⟨rfl, rfl, rfl, q1655⟩) rfl (Or.inr k336) k315 ?_
  refine mx_nmR (ah_ext.wR (Or.inr (Or.inl k336))) (fun h337 eh337 Xh337 Kh337 Lh337 => ?_)
  have H := H h337 eh337 Xh337
  refine mx_aload_n dX8_init_171 rfl rfl ?_
  refine mx_bipush dX8_init_172 ib_100 ?_
  obtain ⟨k338, H⟩ := H
  refine mx_newa 0 rfl (by decide) q205 dX8_init_174 cn_100 (by decide) k338.1 k338.2 (by decide) (fun x_ lv_ => ?_)
  refine mx_nmN x_ lv_ (fun h339 eh339 Xh339 lv_ => ?_)
  have H := H h339 eh339 Xh339 lv_
  have k340 := Xh339.kd ((ma_kde Kh337 (k314)))
  have k341 := Xh339.kd ((ma_kde Kh337 (k315)))
  have k342 := Xh339.kd ((ma_kde Kh337 (k316)))
  have k343 := Xh339.kd ((ma_kde Kh337 (k317)))
  have k344 := Xh339.kd ((ma_kde Kh337 (k318)))
  have k345 := Xh339.kd ((ma_kde Kh337 (k319)))
  have k346 := Xh339.kd ((ma_kde Kh337 (k320)))
  have k347 := Xh339.kd ((ma_kde Kh337 (k321)))
  have k348 := Xh339.kd ((ma_kde Kh337 (k322)))
  have k349 := Xh339.kd ((ma_kde Kh337 (k323)))
  have k350 := Xh339.kd ((ma_kde Kh337 (k324)))
  have k351 := Xh339.kd ((ma_kde Kh337 (k325)))
  have k352 := Xh339.kd ((ma_kde Kh337 (k326)))
  have k353 := Xh339.kd ((ma_kde Kh337 (k327)))
  have k354 := Xh339.kd ((ma_kde Kh337 (k328)))
  have k355 := Xh339.kd ((ma_kde Kh337 (k329)))
  have k356 := Xh339.kd ((ma_kde Kh337 (k330)))
  have k357 := Xh339.kd ((ma_kde Kh337 (k331)))
  have k358 := Xh339.kd ((ma_kde Kh337 (k332)))
  have k359 := Xh339.kd ((ma_kde Kh337 (k333)))
  have k360 := Xh339.kd ((ma_kde Kh337 (k334)))
  have k361 := Xh339.kd ((ma_kde Kh337 (k335)))
  have k362 : ah_kd h339 (ah_sz h337) = 40 := by rw [eh339]; exact if_pos rfl
  obtain ⟨k363, H⟩ := H
  refine mx_putA 8 29 (ref := "PrairiePoolModel") cl_8 (Nat.le_of_ble_eq_true rfl) (Or.inl q1656) (Or.inl rfl) dX8_init_176 (Or.inr ⟨rfl, rfl, rfl, q1656⟩) rfl (Or.inr k363) k341 ?_
  refine mx_nmR (ah_ext.wR (Or.inr (Or.inl k363))) (fun h364 eh364 Xh364 Kh364 Lh364 => ?_)
  have H := H h364 eh364 Xh364
  refine mx_aload_n dX8_init_179 rfl rfl ?_
  refine mx_sipush dX8_init_180 is_9600 ?_
  obtain ⟨k365, H⟩ := H
  refine mx_newa 0 rfl (by decide) q205 dX8_init_183 cn_9600 (by decide) k365.1 k365.2 (by decide) (fun x_ lv_ => ?_)
  refine mx_nmN x_ lv_ (fun h366 eh366 Xh366 lv_ => ?_)
  have H := H h366 eh366 Xh366 lv_
  have k367 := Xh366.kd ((ma_kde Kh364 (k340)))
  have k368 := Xh366.kd ((ma_kde Kh364 (k341)))
  have k369 := Xh366.kd ((ma_kde Kh364 (k342)))
  have k370 := Xh366.kd ((ma_kde Kh364 (k343)))
  have k371 := Xh366.kd ((ma_kde Kh364 (k344)))
  have k372 := Xh366.kd ((ma_kde Kh364 (k345)))
  have k373 := Xh366.kd ((ma_kde Kh364 (k346)))
  have k374 := Xh366.kd ((ma_kde Kh364 (k347)))
  have k375 := Xh366.kd ((ma_kde Kh364 (k348)))
  have k376 := Xh366.kd ((ma_kde Kh364 (k349)))
  have k377 := Xh366.kd ((ma_kde Kh364 (k350)))
  have k378 := Xh366.kd ((ma_kde Kh364 (k351)))
  have k379 := Xh366.kd ((ma_kde Kh364 (k352)))
  have k380 := Xh366.kd ((ma_kde Kh364 (k353)))
  have k381 := Xh366.kd ((ma_kde Kh364 (k354)))
  have k382 := Xh366.kd ((ma_kde Kh364 (k355)))
  have k383 := Xh366.kd ((ma_kde Kh364 (k356)))
  have k384 := Xh366.kd ((ma_kde Kh364 (k357)))
  have k385 := Xh366.kd ((ma_kde Kh364 (k358)))
  have k386 := Xh366.kd ((ma_kde Kh364 (k359)))
  have k387 := Xh366.kd ((ma_kde Kh364 (k360)))
  have k388 := Xh366.kd ((ma_kde Kh364 (k361)))
  have k389 := Xh366.kd ((ma_kde Kh364 (k362)))
  have k390 : ah_kd h366 (ah_sz h364) = 40 := by rw [eh366]; exact if_pos rfl
  obtain ⟨k391, H⟩ := H
  refine mx_putA 8 30 (ref := "PrairiePoolModel") cl_8 (Nat.le_of_ble_eq_true rfl) (Or.inl q1657) (Or.inl rfl) dX8_init_185 (Or.inr ⟨rfl, rfl, rfl, q1657⟩) rfl (Or.inr k391) k368 ?_
  refine mx_nmR (ah_ext.wR (Or.inr (Or.inl k391))) (fun h392 eh392 Xh392 Kh392 Lh392 => ?_)
  have H := H h392 eh392 Xh392
  refine mx_aload_n dX8_init_188 rfl rfl ?_
  refine mx_sipush dX8_init_189 is_2400 ?_
  obtain ⟨k393, H⟩ := H
  refine mx_newa 0 rfl (by decide) q205 dX8_init_192 cn_2400 (by decide) k393.1 k393.2 (by decide) (fun x_ lv_ => ?_)
  refine mx_nmN x_ lv_ (fun h394 eh394 Xh394 lv_ => ?_)
  have H := H h394 eh394 Xh394 lv_
  have k395 := Xh394.kd ((ma_kde Kh392 (k367)))
  have k396 := Xh394.kd ((ma_kde Kh392 (k368)))
  have k397 := Xh394.kd ((ma_kde Kh392 (k369)))
  have k398 := Xh394.kd ((ma_kde Kh392 (k370)))
  have k399 := Xh394.kd ((ma_kde Kh392 (k371)))
  have k400 := Xh394.kd ((ma_kde Kh392 (k372)))
  have k401 := Xh394.kd ((ma_kde Kh392 (k373)))
  have k402 := Xh394.kd ((ma_kde Kh392 (k374)))
  have k403 := Xh394.kd ((ma_kde Kh392 (k375)))
  have k404 := Xh394.kd ((ma_kde Kh392 (k376)))
  have k405 := Xh394.kd ((ma_kde Kh392 (k377)))
  have k406 := Xh394.kd ((ma_kde Kh392 (k378)))
  have k407 := Xh394.kd ((ma_kde Kh392 (k379)))
  have k408 := Xh394.kd ((ma_kde Kh392 (k380)))
  have k409 := Xh394.kd ((ma_kde Kh392 (k381)))
  have k410 := Xh394.kd ((ma_kde Kh392 (k382)))
  have k411 := Xh394.kd ((ma_kde Kh392 (k383)))
  have k412 := Xh394.kd ((ma_kde Kh392 (k384)))
  have k413 := Xh394.kd ((ma_kde Kh392 (k385)))
  have k414 := Xh394.kd ((ma_kde Kh392 (k386)))
  have k415 := Xh394.kd ((ma_kde Kh392 (k387)))
  have k416 := Xh394.kd ((ma_kde Kh392 (k388)))
  have k417 := Xh394.kd ((ma_kde Kh392 (k389)))
  have k418 := Xh394.kd ((ma_kde Kh392 (k390)))
  have k419 : ah_kd h394 (ah_sz h392) = 40 := by rw [eh394]; exact if_pos rfl
  obtain ⟨k420, H⟩ := H
  refine mx_putA 8 31 (ref := "PrairiePoolModel") cl_8 (Nat.le_of_ble_eq_true rfl) (Or.inl q1658) (Or.inl rfl) dX8_init_194 (Or.inr ⟨rfl, rfl, rfl, q1658⟩) rfl (Or.inr k420) k396 ?_
  refine mx_nmR (ah_ext.wR (Or.inr (Or.inl k420))) (fun h421 eh421 Xh421 Kh421 Lh421 => ?_)
  have H := H h421 eh421 Xh421
  refine mx_aload_n dX8_init_197 rfl rfl ?_
  refine mx_bipush dX8_init_198 ib_120 ?_
  obtain ⟨k422, H⟩ := H
  refine mx_newa 0 rfl (by decide) q205 dX8_init_200 cn_120 (by decide) k422.1 k422.2 (by decide) (fun x_ lv_ => ?_)
  refine mx_nmN x_ lv_ (fun h423 eh423 Xh423 lv_ => ?_)
  have H := H h423 eh423 Xh423 lv_
  have k424 := Xh423.kd ((ma_kde Kh421 (k395)))
  have k425 := Xh423.kd ((ma_kde Kh421 (k396)))
  have k426 := Xh423.kd ((ma_kde Kh421 (k397)))
  have k427 := Xh423.kd ((ma_kde Kh421 (k398)))
  have k428 := Xh423.kd ((ma_kde Kh421 (k399)))
  have k429 := Xh423.kd ((ma_kde Kh421 (k400)))
  have k430 := Xh423.kd ((ma_kde Kh421 (k401)))
  have k431 := Xh423.kd ((ma_kde Kh421 (k402)))
  have k432 := Xh423.kd ((ma_kde Kh421 (k403)))
  have k433 := Xh423.kd ((ma_kde Kh421 (k404)))
  have k434 := Xh423.kd ((ma_kde Kh421 (k405)))
  have k435 := Xh423.kd ((ma_kde Kh421 (k406)))
  have k436 := Xh423.kd ((ma_kde Kh421 (k407)))
  have k437 := Xh423.kd ((ma_kde Kh421 (k408)))
  have k438 := Xh423.kd ((ma_kde Kh421 (k409)))
  have k439 := Xh423.kd ((ma_kde Kh421 (k410)))
  have k440 := Xh423.kd ((ma_kde Kh421 (k411)))
  have k441 := Xh423.kd ((ma_kde Kh421 (k412)))
  have k442 := Xh423.kd ((ma_kde Kh421 (k413)))
  have k443 := Xh423.kd ((ma_kde Kh421 (k414)))
  have k444 := Xh423.kd ((ma_kde Kh421 (k415)))
  have k445 := Xh423.kd ((ma_kde Kh421 (k416)))
  have k446 := Xh423.kd ((ma_kde Kh421 (k417)))
  have k447 := Xh423.kd ((ma_kde Kh421 (k418)))
  have k448 := Xh423.kd ((ma_kde Kh421 (k419)))
  have k449 : ah_kd h423 (ah_sz h421) = 40 := by rw [eh423]; exact if_pos rfl
  obtain ⟨k450, H⟩ := H
  refine mx_putA 8 32 (ref := "PrairiePoolModel") cl_8 (Nat.le_of_ble_eq_true rfl) (Or.inl q1659) (Or.inl rfl) dX8_init_202 (Or.inr ⟨rfl, rfl, rfl, q1659⟩) rfl (Or.inr k450) k425 ?_
  refine mx_nmR (ah_ext.wR (Or.inr (Or.inl k450))) (fun h451 eh451 Xh451 Kh451 Lh451 => ?_)
  have H := H h451 eh451 Xh451
  refine mx_aload_n dX8_init_205 rfl rfl ?_
  refine mx_bipush dX8_init_206 ib_120 ?_
  obtain ⟨k452, H⟩ := H
  refine mx_newa 0 rfl (by decide) q205 dX8_init_208 cn_120 (by decide) k452.1 k452.2 (by decide) (fun x_ lv_ => ?_)
  refine mx_nmN x_ lv_ (fun h453 eh453 Xh453 lv_ => ?_)
  have H := H h453 eh453 Xh453 lv_
  have k454 := Xh453.kd ((ma_kde Kh451 (k424)))
  have k455 := Xh453.kd ((ma_kde Kh451 (k425)))
  have k456 := Xh453.kd ((ma_kde Kh451 (k426)))
  have k457 := Xh453.kd ((ma_kde Kh451 (k427)))
  have k458 := Xh453.kd ((ma_kde Kh451 (k428)))
  have k459 := Xh453.kd ((ma_kde Kh451 (k429)))
  have k460 := Xh453.kd ((ma_kde Kh451 (k430)))
  have k461 := Xh453.kd ((ma_kde Kh451 (k431)))
  have k462 := Xh453.kd ((ma_kde Kh451 (k432)))
  have k463 := Xh453.kd ((ma_kde Kh451 (k433)))
  have k464 := Xh453.kd ((ma_kde Kh451 (k434)))
  have k465 := Xh453.kd ((ma_kde Kh451 (k435)))
  have k466 := Xh453.kd ((ma_kde Kh451 (k436)))
  have k467 := Xh453.kd ((ma_kde Kh451 (k437)))
  have k468 := Xh453.kd ((ma_kde Kh451 (k438)))
  have k469 := Xh453.kd ((ma_kde Kh451 (k439)))
  have k470 := Xh453.kd ((ma_kde Kh451 (k440)))
  have k471 := Xh453.kd ((ma_kde Kh451 (k441)))
  have k472 := Xh453.kd ((ma_kde Kh451 (k442)))
  have k473 := Xh453.kd ((ma_kde Kh451 (k443)))
  have k474 := Xh453.kd ((ma_kde Kh451 (k444)))
  have k475 := Xh453.kd ((ma_kde Kh451 (k445)))
  have k476 := Xh453.kd ((ma_kde Kh451 (k446)))
  have k477 := Xh453.kd ((ma_kde Kh451 (k447)))
  have k478 := Xh453.kd ((ma_kde Kh451 (k448)))
  have k479 := Xh453.kd ((ma_kde Kh451 (k449)))
  have k480 : ah_kd h453 (ah_sz h451) = 40 := by rw [eh453]; exact if_pos rfl
  obtain ⟨k481, H⟩ := H
  refine mx_putA 8 33 (ref := "PrairiePoolModel") cl_8 (Nat.le_of_ble_eq_true rfl) (Or.inl q1660) (Or.inl rfl) dX8_init_210 (Or.inr ⟨rfl, rfl, rfl, q1660⟩) rfl (Or.inr k481) k455 ?_
  refine mx_nmR (ah_ext.wR (Or.inr (Or.inl k481))) (fun h482 eh482 Xh482 Kh482 Lh482 => ?_)
  have H := H h482 eh482 Xh482
  refine mx_aload_n dX8_init_213 rfl rfl ?_
  refine mx_bipush dX8_init_214 ib_120 ?_
  obtain ⟨k483, H⟩ := H
  refine mx_newa 0 rfl (by decide) q205 dX8_init_216 cn_120 (by decide) k483.1 k483.2 (by decide) (fun x_ lv_ => ?_)
  refine mx_nmN x_ lv_ (fun h484 eh484 Xh484 lv_ => ?_)
  have H := H h484 eh484 Xh484 lv_
  have k485 := Xh484.kd ((ma_kde Kh482 (k454)))
  have k486 := Xh484.kd ((ma_kde Kh482 (k455)))
  have k487 := Xh484.kd ((ma_kde Kh482 (k456)))
  have k488 := Xh484.kd ((ma_kde Kh482 (k457)))
  have k489 := Xh484.kd ((ma_kde Kh482 (k458)))
  have k490 := Xh484.kd ((ma_kde Kh482 (k459)))
  have k491 := Xh484.kd ((ma_kde Kh482 (k460)))
  have k492 := Xh484.kd ((ma_kde Kh482 (k461)))
  have k493 := Xh484.kd ((ma_kde Kh482 (k462)))
  have k494 := Xh484.kd ((ma_kde Kh482 (k463)))
  have k495 := Xh484.kd ((ma_kde Kh482 (k464)))
  have k496 := Xh484.kd ((ma_kde Kh482 (k465)))
  have k497 := Xh484.kd ((ma_kde Kh482 (k466)))
  have k498 := Xh484.kd ((ma_kde Kh482 (k467)))
  have k499 := Xh484.kd ((ma_kde Kh482 (k468)))
  have k500 := Xh484.kd ((ma_kde Kh482 (k469)))
  have k501 := Xh484.kd ((ma_kde Kh482 (k470)))
  have k502 := Xh484.kd ((ma_kde Kh482 (k471)))
  have k503 := Xh484.kd ((ma_kde Kh482 (k472)))
  have k504 := Xh484.kd ((ma_kde Kh482 (k473)))
  have k505 := Xh484.kd ((ma_kde Kh482 (k474)))
  have k506 := Xh484.kd ((ma_kde Kh482 (k475)))
  have k507 := Xh484.kd ((ma_kde Kh482 (k476)))
  have k508 := Xh484.kd ((ma_kde Kh482 (k477)))
  have k509 := Xh484.kd ((ma_kde Kh482 (k478)))
  have k510 := Xh484.kd ((ma_kde Kh482 (k479)))
  have k511 := Xh484.kd ((ma_kde Kh482 (k480)))
  have k512 : ah_kd h484 (ah_sz h482) = 40 := by rw [eh484]; exact if_pos rfl
  obtain ⟨k513, H⟩ := H
  refine mx_putA 8 34 (ref := "PrairiePoolModel") cl_8 (Nat.le_of_ble_eq_true rfl) (Or.inl q1661) (Or.inl rfl) dX8_init_218 (Or.inr ⟨rfl, rfl, rfl, q1661⟩) rfl (Or.inr k513) k486 ?_
  refine mx_nmR (ah_ext.wR (Or.inr (Or.inl k513))) (fun h514 eh514 Xh514 Kh514 Lh514 => ?_)
  have H := H h514 eh514 Xh514
  refine mx_aload_n dX8_init_221 rfl rfl ?_
  refine mx_bipush dX8_init_222 ib_20 ?_
  obtain ⟨k515, H⟩ := H
  refine mx_newa 0 rfl (by decide) q205 dX8_init_224 cn_20 (by decide) k515.1 k515.2 (by decide) (fun x_ lv_ => ?_)
  refine mx_nmN x_ lv_ (fun h516 eh516 Xh516 lv_ => ?_)
  have H := H h516 eh516 Xh516 lv_
  have k517 := Xh516.kd ((ma_kde Kh514 (k485)))
  have k518 := Xh516.kd ((ma_kde Kh514 (k486)))
  have k519 := Xh516.kd ((ma_kde Kh514 (k487)))
  have k520 := Xh516.kd ((ma_kde Kh514 (k488)))
  have k521 := Xh516.kd ((ma_kde Kh514 (k489)))
  have k522 := Xh516.kd ((ma_kde Kh514 (k490)))
  have k523 := Xh516.kd ((ma_kde Kh514 (k491)))
  have k524 := Xh516.kd ((ma_kde Kh514 (k492)))
  have k525 := Xh516.kd ((ma_kde Kh514 (k493)))
  have k526 := Xh516.kd ((ma_kde Kh514 (k494)))
  have k527 := Xh516.kd ((ma_kde Kh514 (k495)))
  have k528 := Xh516.kd ((ma_kde Kh514 (k496)))
  have k529 := Xh516.kd ((ma_kde Kh514 (k497)))
  have k530 := Xh516.kd ((ma_kde Kh514 (k498)))
  have k531 := Xh516.kd ((ma_kde Kh514 (k499)))
  have k532 := Xh516.kd ((ma_kde Kh514 (k500)))
  have k533 := Xh516.kd ((ma_kde Kh514 (k501)))
  have k534 := Xh516.kd ((ma_kde Kh514 (k502)))
  have k535 := Xh516.kd ((ma_kde Kh514 (k503)))
  have k536 := Xh516.kd ((ma_kde Kh514 (k504)))
  have k537 := Xh516.kd ((ma_kde Kh514 (k505)))
  have k538 := Xh516.kd ((ma_kde Kh514 (k506)))
  have k539 := Xh516.kd ((ma_kde Kh514 (k507)))
  have k540 := Xh516.kd ((ma_kde Kh514 (k508)))
  have k541 := Xh516.kd ((ma_kde Kh514 (k509)))
  have k542 := Xh516.kd ((ma_kde Kh514 (k510)))
  have k543 := Xh516.kd ((ma_kde Kh514 (k511)))
  have k544 := Xh516.kd ((ma_kde Kh514 (k512)))
  have k545 : ah_kd h516 (ah_sz h514) = 40 := by rw [eh516]; exact if_pos rfl
  obtain ⟨k546, H⟩ := H
  refine mx_putA 8 35 (ref := "PrairiePoolModel") cl_8 (Nat.le_of_ble_eq_true rfl) (Or.inl q1662) (Or.inl rfl) dX8_init_226 (Or.inr ⟨rfl, rfl, rfl, q1662⟩) rfl (Or.inr k546) k518 ?_
  refine mx_nmR (ah_ext.wR (Or.inr (Or.inl k546))) (fun h547 eh547 Xh547 Kh547 Lh547 => ?_)
  have H := H h547 eh547 Xh547
  refine mx_aload_n dX8_init_229 rfl rfl ?_
  refine mx_bipush dX8_init_230 ib_20 ?_
  obtain ⟨k548, H⟩ := H
  refine mx_newa 0 rfl (by decide) q205 dX8_init_232 cn_20 (by decide) k548.1 k548.2 (by decide) (fun x_ lv_ => ?_)
  refine mx_nmN x_ lv_ (fun h549 eh549 Xh549 lv_ => ?_)
  have H := H h549 eh549 Xh549 lv_
  have k550 := Xh549.kd ((ma_kde Kh547 (k517)))
  have k551 := Xh549.kd ((ma_kde Kh547 (k518)))
  have k552 := Xh549.kd ((ma_kde Kh547 (k519)))
  have k553 := Xh549.kd ((ma_kde Kh547 (k520)))
  have k554 := Xh549.kd ((ma_kde Kh547 (k521)))
  have k555 := Xh549.kd ((ma_kde Kh547 (k522)))
  have k556 := Xh549.kd ((ma_kde Kh547 (k523)))
  have k557 := Xh549.kd ((ma_kde Kh547 (k524)))
  have k558 := Xh549.kd ((ma_kde Kh547 (k525)))
  have k559 := Xh549.kd ((ma_kde Kh547 (k526)))
  have k560 := Xh549.kd ((ma_kde Kh547 (k527)))
  have k561 := Xh549.kd ((ma_kde Kh547 (k528)))
  have k562 := Xh549.kd ((ma_kde Kh547 (k529)))
  have k563 := Xh549.kd ((ma_kde Kh547 (k530)))
  have k564 := Xh549.kd ((ma_kde Kh547 (k531)))
  have k565 := Xh549.kd ((ma_kde Kh547 (k532)))
  have k566 := Xh549.kd ((ma_kde Kh547 (k533)))
  have k567 := Xh549.kd ((ma_kde Kh547 (k534)))
  have k568 := Xh549.kd ((ma_kde Kh547 (k535)))
  have k569 := Xh549.kd ((ma_kde Kh547 (k536)))
  have k570 := Xh549.kd ((ma_kde Kh547 (k537)))
  have k571 := Xh549.kd ((ma_kde Kh547 (k538)))
  have k572 := Xh549.kd ((ma_kde Kh547 (k539)))
  have k573 := Xh549.kd ((ma_kde Kh547 (k540)))
  have k574 := Xh549.kd ((ma_kde Kh547 (k541)))
  have k575 := Xh549.kd ((ma_kde Kh547 (k542)))
  have k576 := Xh549.kd ((ma_kde Kh547 (k543)))
  have k577 := Xh549.kd ((ma_kde Kh547 (k544)))
  have k578 := Xh549.kd ((ma_kde Kh547 (k545)))
  have k579 : ah_kd h549 (ah_sz h547) = 40 := by rw [eh549]; exact if_pos rfl
  obtain ⟨k580, H⟩ := H
  refine mx_putA 8 36 (ref := "PrairiePoolModel") cl_8 (Nat.le_of_ble_eq_true rfl) (Or.inl q1663) (Or.inl rfl) dX8_init_234 (Or.inr ⟨rfl, rfl, rfl, q1663⟩) rfl (Or.inr k580) k551 ?_
  refine mx_nmR (ah_ext.wR (Or.inr (Or.inl k580))) (fun h581 eh581 Xh581 Kh581 Lh581 => ?_)
  have H := H h581 eh581 Xh581
  refine mx_aload_n dX8_init_237 rfl rfl ?_
  refine mx_bipush dX8_init_238 ib_20 ?_
  obtain ⟨k582, H⟩ := H
  refine mx_newa 0 rfl (by decide) q205 dX8_init_240 cn_20 (by decide) k582.1 k582.2 (by decide) (fun x_ lv_ => ?_)
  refine mx_nmN x_ lv_ (fun h583 eh583 Xh583 lv_ => ?_)
  have H := H h583 eh583 Xh583 lv_
  have k584 := Xh583.kd ((ma_kde Kh581 (k550)))
  have k585 := Xh583.kd ((ma_kde Kh581 (k551)))
  have k586 := Xh583.kd ((ma_kde Kh581 (k552)))
  have k587 := Xh583.kd ((ma_kde Kh581 (k553)))
  have k588 := Xh583.kd ((ma_kde Kh581 (k554)))
  have k589 := Xh583.kd ((ma_kde Kh581 (k555)))
  have k590 := Xh583.kd ((ma_kde Kh581 (k556)))
  have k591 := Xh583.kd ((ma_kde Kh581 (k557)))
  have k592 := Xh583.kd ((ma_kde Kh581 (k558)))
  have k593 := Xh583.kd ((ma_kde Kh581 (k559)))
  have k594 := Xh583.kd ((ma_kde Kh581 (k560)))
  have k595 := Xh583.kd ((ma_kde Kh581 (k561)))
  have k596 := Xh583.kd ((ma_kde Kh581 (k562)))
  have k597 := Xh583.kd ((ma_kde Kh581 (k563)))
  have k598 := Xh583.kd ((ma_kde Kh581 (k564)))
  have k599 := Xh583.kd ((ma_kde Kh581 (k565)))
  have k600 := Xh583.kd ((ma_kde Kh581 (k566)))
  have k601 := Xh583.kd ((ma_kde Kh581 (k567)))
  have k602 := Xh583.kd ((ma_kde Kh581 (k568)))
  have k603 := Xh583.kd ((ma_kde Kh581 (k569)))
  have k604 := Xh583.kd ((ma_kde Kh581 (k570)))
  have k605 := Xh583.kd ((ma_kde Kh581 (k571)))
  have k606 := Xh583.kd ((ma_kde Kh581 (k572)))
  have k607 := Xh583.kd ((ma_kde Kh581 (k573)))
  have k608 := Xh583.kd ((ma_kde Kh581 (k574)))
  have k609 := Xh583.kd ((ma_kde Kh581 (k575)))
  have k610 := Xh583.kd ((ma_kde Kh581 (k576)))
  have k611 := Xh583.kd ((ma_kde Kh581 (k577)))
  have k612 := Xh583.kd ((ma_kde Kh581 (k578)))
  have k613 := Xh583.kd ((ma_kde Kh581 (k579)))
  have k614 : ah_kd h583 (ah_sz h581) = 40 := by rw [eh583]; exact if_pos rfl
  obtain ⟨k615, H⟩ := H
  refine mx_putA 8 37 (ref := "PrairiePoolModel") cl_8 (Nat.le_of_ble_eq_true rfl) (Or.inl q1664) (Or.inl rfl) dX8_init_242 (Or.inr ⟨rfl, rfl, rfl, q1664⟩) rfl (Or.inr k615) k585 ?_
  refine mx_nmR (ah_ext.wR (Or.inr (Or.inl k615))) (fun h616 eh616 Xh616 Kh616 Lh616 => ?_)
  have H := H h616 eh616 Xh616
  refine mx_aload_n dX8_init_245 rfl rfl ?_
  refine mx_bipush dX8_init_246 ib_20 ?_
  obtain ⟨k617, H⟩ := H
  refine mx_newa 0 rfl (by decide) q205 dX8_init_248 cn_20 (by decide) k617.1 k617.2 (by decide) (fun x_ lv_ => ?_)
  refine mx_nmN x_ lv_ (fun h618 eh618 Xh618 lv_ => ?_)
  have H := H h618 eh618 Xh618 lv_
  have k619 := Xh618.kd ((ma_kde Kh616 (k584)))
  have k620 := Xh618.kd ((ma_kde Kh616 (k585)))
  have k621 := Xh618.kd ((ma_kde Kh616 (k586)))
  have k622 := Xh618.kd ((ma_kde Kh616 (k587)))
  have k623 := Xh618.kd ((ma_kde Kh616 (k588)))
  have k624 := Xh618.kd ((ma_kde Kh616 (k589)))
  have k625 := Xh618.kd ((ma_kde Kh616 (k590)))
  have k626 := Xh618.kd ((ma_kde Kh616 (k591)))
  have k627 := Xh618.kd ((ma_kde Kh616 (k592)))
  have k628 := Xh618.kd ((ma_kde Kh616 (k593)))
  have k629 := Xh618.kd ((ma_kde Kh616 (k594)))
  have k630 := Xh618.kd ((ma_kde Kh616 (k595)))
  have k631 := Xh618.kd ((ma_kde Kh616 (k596)))
  have k632 := Xh618.kd ((ma_kde Kh616 (k597)))
  have k633 := Xh618.kd ((ma_kde Kh616 (k598)))
  have k634 := Xh618.kd ((ma_kde Kh616 (k599)))
  have k635 := Xh618.kd ((ma_kde Kh616 (k600)))
  have k636 := Xh618.kd ((ma_kde Kh616 (k601)))
  have k637 := Xh618.kd ((ma_kde Kh616 (k602)))
  have k638 := Xh618.kd ((ma_kde Kh616 (k603)))
  have k639 := Xh618.kd ((ma_kde Kh616 (k604)))
  have k640 := Xh618.kd ((ma_kde Kh616 (k605)))
  have k641 := Xh618.kd ((ma_kde Kh616 (k606)))
  have k642 := Xh618.kd ((ma_kde Kh616 (k607)))
  have k643 := Xh618.kd ((ma_kde Kh616 (k608)))
  have k644 := Xh618.kd ((ma_kde Kh616 (k609)))
  have k645 := Xh618.kd ((ma_kde Kh616 (k610)))
  have k646 := Xh618.kd ((ma_kde Kh616 (k611)))
  have k647 := Xh618.kd ((ma_kde Kh616 (k612)))
  have k648 := Xh618.kd ((ma_kde Kh616 (k613)))
  have k649 := Xh618.kd ((ma_kde Kh616 (k614)))
  have k650 : ah_kd h618 (ah_sz h616) = 40 := by rw [eh618]; exact if_pos rfl
  obtain ⟨k651, H⟩ := H
  refine mx_putA 8 38 (ref := "PrairiePoolModel") cl_8 (Nat.le_of_ble_eq_true rfl) (Or.inl q1665) (Or.inl rfl) dX8_init_250 (Or.inr ⟨rfl, rfl, rfl, q1665⟩) rfl (Or.inr k651) k620 ?_
  refine mx_nmR (ah_ext.wR (Or.inr (Or.inl k651))) (fun h652 eh652 Xh652 Kh652 Lh652 => ?_)
  have H := H h652 eh652 Xh652
  refine mx_aload_n dX8_init_253 rfl rfl ?_
  refine mx_bipush dX8_init_254 ib_20 ?_
  obtain ⟨k653, H⟩ := H
  refine mx_newa 1 rfl (by decide) q206 dX8_init_256 cn_20 (by decide) k653.1 k653.2 (by decide) (fun x_ lv_ => ?_)
  refine mx_nmN x_ lv_ (fun h654 eh654 Xh654 lv_ => ?_)
  have H := H h654 eh654 Xh654 lv_
  have k655 := Xh654.kd ((ma_kde Kh652 (k619)))
  have k656 := Xh654.kd ((ma_kde Kh652 (k620)))
  have k657 := Xh654.kd ((ma_kde Kh652 (k621)))
  have k658 := Xh654.kd ((ma_kde Kh652 (k622)))
  have k659 := Xh654.kd ((ma_kde Kh652 (k623)))
  have k660 := Xh654.kd ((ma_kde Kh652 (k624)))
  have k661 := Xh654.kd ((ma_kde Kh652 (k625)))
  have k662 := Xh654.kd ((ma_kde Kh652 (k626)))
  have k663 := Xh654.kd ((ma_kde Kh652 (k627)))
  have k664 := Xh654.kd ((ma_kde Kh652 (k628)))
  have k665 := Xh654.kd ((ma_kde Kh652 (k629)))
  have k666 := Xh654.kd ((ma_kde Kh652 (k630)))
  have k667 := Xh654.kd ((ma_kde Kh652 (k631)))
  have k668 := Xh654.kd ((ma_kde Kh652 (k632)))
  have k669 := Xh654.kd ((ma_kde Kh652 (k633)))
  have k670 := Xh654.kd ((ma_kde Kh652 (k634)))
  have k671 := Xh654.kd ((ma_kde Kh652 (k635)))
  have k672 := Xh654.kd ((ma_kde Kh652 (k636)))
  have k673 := Xh654.kd ((ma_kde Kh652 (k637)))
  have k674 := Xh654.kd ((ma_kde Kh652 (k638)))
  have k675 := Xh654.kd ((ma_kde Kh652 (k639)))
  have k676 := Xh654.kd ((ma_kde Kh652 (k640)))
  have k677 := Xh654.kd ((ma_kde Kh652 (k641)))
  have k678 := Xh654.kd ((ma_kde Kh652 (k642)))
  have k679 := Xh654.kd ((ma_kde Kh652 (k643)))
  have k680 := Xh654.kd ((ma_kde Kh652 (k644)))
  have k681 := Xh654.kd ((ma_kde Kh652 (k645)))
  have k682 := Xh654.kd ((ma_kde Kh652 (k646)))
  have k683 := Xh654.kd ((ma_kde Kh652 (k647)))
  have k684 := Xh654.kd ((ma_kde Kh652 (k648)))
  have k685 := Xh654.kd ((ma_kde Kh652 (k649)))
  have k686 := Xh654.kd ((ma_kde Kh652 (k650)))
  have k687 : ah_kd h654 (ah_sz h652) = 41 := by rw [eh654]; exact if_pos rfl
  obtain ⟨k688, H⟩ := H
  refine mx_putA 8 40 (ref := "PrairiePoolModel") cl_8 (Nat.le_of_ble_eq_true rfl) (Or.inl q1667) (Or.inl rfl) dX8_init_258 (Or.inr ⟨rfl, rfl, rfl, q1667⟩) rfl (Or.inr k688) k656 ?_
  refine mx_nmR (ah_ext.wR (Or.inr (Or.inl k688))) (fun h689 eh689 Xh689 Kh689 Lh689 => ?_)
  have H := H h689 eh689 Xh689
  refine mx_aload_n dX8_init_261 rfl rfl ?_
  refine mx_bipush dX8_init_262 ib_20 ?_
  obtain ⟨k690, H⟩ := H
  refine mx_newa 1 rfl (by decide) q206 dX8_init_264 cn_20 (by decide) k690.1 k690.2 (by decide) (fun x_ lv_ => ?_)
  refine mx_nmN x_ lv_ (fun h691 eh691 Xh691 lv_ => ?_)
  have H := H h691 eh691 Xh691 lv_
  have k692 := Xh691.kd ((ma_kde Kh689 (k655)))
  have k693 := Xh691.kd ((ma_kde Kh689 (k656)))
  have k694 := Xh691.kd ((ma_kde Kh689 (k657)))
  have k695 := Xh691.kd ((ma_kde Kh689 (k658)))
  have k696 := Xh691.kd ((ma_kde Kh689 (k659)))
  have k697 := Xh691.kd ((ma_kde Kh689 (k660)))
  have k698 := Xh691.kd ((ma_kde Kh689 (k661)))
  have k699 := Xh691.kd ((ma_kde Kh689 (k662)))
  have k700 := Xh691.kd ((ma_kde Kh689 (k663)))
  have k701 := Xh691.kd ((ma_kde Kh689 (k664)))
  have k702 := Xh691.kd ((ma_kde Kh689 (k665)))
  have k703 := Xh691.kd ((ma_kde Kh689 (k666)))
  have k704 := Xh691.kd ((ma_kde Kh689 (k667)))
  have k705 := Xh691.kd ((ma_kde Kh689 (k668)))
  have k706 := Xh691.kd ((ma_kde Kh689 (k669)))
  have k707 := Xh691.kd ((ma_kde Kh689 (k670)))
  have k708 := Xh691.kd ((ma_kde Kh689 (k671)))
  have k709 := Xh691.kd ((ma_kde Kh689 (k672)))
  have k710 := Xh691.kd ((ma_kde Kh689 (k673)))
  have k711 := Xh691.kd ((ma_kde Kh689 (k674)))
  have k712 := Xh691.kd ((ma_kde Kh689 (k675)))
  have k713 := Xh691.kd ((ma_kde Kh689 (k676)))
  have k714 := Xh691.kd ((ma_kde Kh689 (k677)))
  have k715 := Xh691.kd ((ma_kde Kh689 (k678)))
  have k716 := Xh691.kd ((ma_kde Kh689 (k679)))
  have k717 := Xh691.kd ((ma_kde Kh689 (k680)))
  have k718 := Xh691.kd ((ma_kde Kh689 (k681)))
  have k719 := Xh691.kd ((ma_kde Kh689 (k682)))
  have k720 := Xh691.kd ((ma_kde Kh689 (k683)))
  have k721 := Xh691.kd ((ma_kde Kh689 (k684)))
  have k722 := Xh691.kd ((ma_kde Kh689 (k685)))
  have k723 := Xh691.kd ((ma_kde Kh689 (k686)))
  have k724 := Xh691.kd ((ma_kde Kh689 (k687)))
  have k725 : ah_kd h691 (ah_sz h689) = 41 := by rw [eh691]; exact if_pos rfl
  obtain ⟨k726, H⟩ := H
  refine mx_putA 8 41 (ref := "PrairiePoolModel") cl_8 (Nat.le_of_ble_eq_true rfl) (Or.inl q1668) (Or.inl rfl) dX8_init_266 (Or.inr ⟨rfl, rfl, rfl, q1668⟩) rfl (Or.inr k726) k693 ?_
  refine mx_nmR (ah_ext.wR (Or.inr (Or.inl k726))) (fun h727 eh727 Xh727 Kh727 Lh727 => ?_)
  have H := H h727 eh727 Xh727
  refine mx_aload_n dX8_init_269 rfl rfl ?_
  refine mx_bipush dX8_init_270 ib_20 ?_
  obtain ⟨k728, H⟩ := H
  refine mx_newa 1 rfl (by decide) q206 dX8_init_272 cn_20 (by decide) k728.1 k728.2 (by decide) (fun x_ lv_ => ?_)
  refine mx_nmN x_ lv_ (fun h729 eh729 Xh729 lv_ => ?_)
  have H := H h729 eh729 Xh729 lv_
  have k730 := Xh729.kd ((ma_kde Kh727 (k692)))
  have k731 := Xh729.kd ((ma_kde Kh727 (k693)))
  have k732 := Xh729.kd ((ma_kde Kh727 (k694)))
  have k733 := Xh729.kd ((ma_kde Kh727 (k695)))
  have k734 := Xh729.kd ((ma_kde Kh727 (k696)))
  have k735 := Xh729.kd ((ma_kde Kh727 (k697)))
  have k736 := Xh729.kd ((ma_kde Kh727 (k698)))
  have k737 := Xh729.kd ((ma_kde Kh727 (k699)))
  have k738 := Xh729.kd ((ma_kde Kh727 (k700)))
  have k739 := Xh729.kd ((ma_kde Kh727 (k701)))
  have k740 := Xh729.kd ((ma_kde Kh727 (k702)))
  have k741 := Xh729.kd ((ma_kde Kh727 (k703)))
  have k742 := Xh729.kd ((ma_kde Kh727 (k704)))
  have k743 := Xh729.kd ((ma_kde Kh727 (k705)))
  have k744 := Xh729.kd ((ma_kde Kh727 (k706)))
  have k745 := Xh729.kd ((ma_kde Kh727 (k707)))
  have k746 := Xh729.kd ((ma_kde Kh727 (k708)))
  have k747 := Xh729.kd ((ma_kde Kh727 (k709)))
  have k748 := Xh729.kd ((ma_kde Kh727 (k710)))
  have k749 := Xh729.kd ((ma_kde Kh727 (k711)))
  have k750 := Xh729.kd ((ma_kde Kh727 (k712)))
  have k751 := Xh729.kd ((ma_kde Kh727 (k713)))
  have k752 := Xh729.kd ((ma_kde Kh727 (k714)))
  have k753 := Xh729.kd ((ma_kde Kh727 (k715)))
  have k754 := Xh729.kd ((ma_kde Kh727 (k716)))
  have k755 := Xh729.kd ((ma_kde Kh727 (k717)))
  have k756 := Xh729.kd ((ma_kde Kh727 (k718)))
  have k757 := Xh729.kd ((ma_kde Kh727 (k719)))
  have k758 := Xh729.kd ((ma_kde Kh727 (k720)))
  have k759 := Xh729.kd ((ma_kde Kh727 (k721)))
  have k760 := Xh729.kd ((ma_kde Kh727 (k722)))
  have k761 := Xh729.kd ((ma_kde Kh727 (k723)))
  have k762 := Xh729.kd ((ma_kde Kh727 (k724)))
  have k763 := Xh729.kd ((ma_kde Kh727 (k725)))
  have k764 : ah_kd h729 (ah_sz h727) = 41 := by rw [eh729]; exact if_pos rfl
  obtain ⟨k765, H⟩ := H
  refine mx_putA 8 42 (ref := "PrairiePoolModel") cl_8 (Nat.le_of_ble_eq_true rfl) (Or.inl q1669) (Or.inl rfl) dX8_init_274 (Or.inr ⟨rfl, rfl, rfl, q1669⟩) rfl (Or.inr k765) k731 ?_
  refine mx_nmR (ah_ext.wR (Or.inr (Or.inl k765))) (fun h766 eh766 Xh766 Kh766 Lh766 => ?_)
  have H := H h766 eh766 Xh766
  refine mx_aload_n dX8_init_277 rfl rfl ?_
  refine mx_sipush dX8_init_278 is_500 ?_
  obtain ⟨k767, H⟩ := H
  refine mx_newa 2 rfl (by decide) q412 dX8_init_281 cn_500 (by decide) k767.1 k767.2 (by decide) (fun x_ lv_ => ?_)
  refine mx_nmN x_ lv_ (fun h768 eh768 Xh768 lv_ => ?_)
  have H := H h768 eh768 Xh768 lv_
  have k769 := Xh768.kd ((ma_kde Kh766 (k730)))
  have k770 := Xh768.kd ((ma_kde Kh766 (k731)))
  have k771 := Xh768.kd ((ma_kde Kh766 (k732)))
  have k772 := Xh768.kd ((ma_kde Kh766 (k733)))
  have k773 := Xh768.kd ((ma_kde Kh766 (k734)))
  have k774 := Xh768.kd ((ma_kde Kh766 (k735)))
  have k775 := Xh768.kd ((ma_kde Kh766 (k736)))
  have k776 := Xh768.kd ((ma_kde Kh766 (k737)))
  have k777 := Xh768.kd ((ma_kde Kh766 (k738)))
  have k778 := Xh768.kd ((ma_kde Kh766 (k739)))
  have k779 := Xh768.kd ((ma_kde Kh766 (k740)))
  have k780 := Xh768.kd ((ma_kde Kh766 (k741)))
  have k781 := Xh768.kd ((ma_kde Kh766 (k742)))
  have k782 := Xh768.kd ((ma_kde Kh766 (k743)))
  have k783 := Xh768.kd ((ma_kde Kh766 (k744)))
  have k784 := Xh768.kd ((ma_kde Kh766 (k745)))
  have k785 := Xh768.kd ((ma_kde Kh766 (k746)))
  have k786 := Xh768.kd ((ma_kde Kh766 (k747)))
  have k787 := Xh768.kd ((ma_kde Kh766 (k748)))
  have k788 := Xh768.kd ((ma_kde Kh766 (k749)))
  have k789 := Xh768.kd ((ma_kde Kh766 (k750)))
  have k790 := Xh768.kd ((ma_kde Kh766 (k751)))
  have k791 := Xh768.kd ((ma_kde Kh766 (k752)))
  have k792 := Xh768.kd ((ma_kde Kh766 (k753)))
  have k793 := Xh768.kd ((ma_kde Kh766 (k754)))
  have k794 := Xh768.kd ((ma_kde Kh766 (k755)))
  have k795 := Xh768.kd ((ma_kde Kh766 (k756)))
  have k796 := Xh768.kd ((ma_kde Kh766 (k757)))
  have k797 := Xh768.kd ((ma_kde Kh766 (k758)))
  have k798 := Xh768.kd ((ma_kde Kh766 (k759)))
  have k799 := Xh768.kd ((ma_kde Kh766 (k760)))
  have k800 := Xh768.kd ((ma_kde Kh766 (k761)))
  have k801 := Xh768.kd ((ma_kde Kh766 (k762)))
  have k802 := Xh768.kd ((ma_kde Kh766 (k763)))
  have k803 := Xh768.kd ((ma_kde Kh766 (k764)))
  have k804 : ah_kd h768 (ah_sz h766) = 42 := by rw [eh768]; exact if_pos rfl
  obtain ⟨k805, H⟩ := H
  refine mx_putA 8 43 (ref := "PrairiePoolModel") cl_8 (Nat.le_of_ble_eq_true rfl) (Or.inl q1670) (Or.inl rfl) dX8_init_283 (Or.inr ⟨rfl, rfl, rfl, q1670⟩) rfl (Or.inr k805) k770 ?_
  refine mx_nmR (ah_ext.wR (Or.inr (Or.inl k805))) (fun h806 eh806 Xh806 Kh806 Lh806 => ?_)
  have H := H h806 eh806 Xh806
  refine mx_aload_n dX8_init_286 rfl rfl ?_
  refine mx_iconst dX8_init_287 ic_m1 ?_
  refine mx_putI 8 46 (ref := "PrairiePoolModel") cl_8 (Nat.le_of_ble_eq_true rfl) (Or.inl q1673) (Or.inl rfl) dX8_init_288 (Or.inl rfl) rfl (ma_kde Kh806 (k770)) ?_
  refine mx_nmI  (fun h807 eh807 Xh807 Kh807 Lh807 => ?_)
  have H := H h807 eh807 Xh807
  have Kh807 := Kh807.trans Kh806
  have Lh807 := Lh807.trans Lh806
  refine mx_aload_n dX8_init_291 rfl rfl ?_
  refine mx_iconst dX8_init_292 ic_m1 ?_
  refine mx_putI 8 47 (ref := "PrairiePoolModel") cl_8 (Nat.le_of_ble_eq_true rfl) (Or.inl q1674) (Or.inl rfl) dX8_init_293 (Or.inl rfl) rfl (ma_kde Kh807 (k770)) ?_
  refine mx_nmI  (fun h808 eh808 Xh808 Kh808 Lh808 => ?_)
  have H := H h808 eh808 Xh808
  have Kh808 := Kh808.trans Kh807
  have Lh808 := Lh808.trans Lh807
  refine mx_aload_n dX8_init_296 rfl rfl ?_
  refine mx_iconst dX8_init_297 ic_4 ?_
  obtain ⟨k809, H⟩ := H
  refine mx_newa 0 rfl (by decide) q205 dX8_init_298 cn_4 (by decide) k809.1 k809.2 (by decide) (fun x_ lv_ => ?_)
  refine mx_nmN x_ lv_ (fun h810 eh810 Xh810 lv_ => ?_)
  have H := H h810 eh810 Xh810 lv_
  have k811 := Xh810.kd ((ma_kde Kh808 (k769)))
  have k812 := Xh810.kd ((ma_kde Kh808 (k770)))
  have k813 := Xh810.kd ((ma_kde Kh808 (k771)))
  have k814 := Xh810.kd ((ma_kde Kh808 (k772)))
  have k815 := Xh810.kd ((ma_kde Kh808 (k773)))
  have k816 := Xh810.kd ((ma_kde Kh808 (k774)))
  have k817 := Xh810.kd ((ma_kde Kh808 (k775)))
  have k818 := Xh810.kd ((ma_kde Kh808 (k776)))
  have k819 := Xh810.kd ((ma_kde Kh808 (k777)))
  have k820 := Xh810.kd ((ma_kde Kh808 (k778)))
  have k821 := Xh810.kd ((ma_kde Kh808 (k779)))
  have k822 := Xh810.kd ((ma_kde Kh808 (k780)))
  have k823 := Xh810.kd ((ma_kde Kh808 (k781)))
  have k824 := Xh810.kd ((ma_kde Kh808 (k782)))
  have k825 := Xh810.kd ((ma_kde Kh808 (k783)))
  have k826 := Xh810.kd ((ma_kde Kh808 (k784)))
  have k827 := Xh810.kd ((ma_kde Kh808 (k785)))
  have k828 := Xh810.kd ((ma_kde Kh808 (k786)))
  have k829 := Xh810.kd ((ma_kde Kh808 (k787)))
  have k830 := Xh810.kd ((ma_kde Kh808 (k788)))
  have k831 := Xh810.kd ((ma_kde Kh808 (k789)))
  have k832 := Xh810.kd ((ma_kde Kh808 (k790)))
  have k833 := Xh810.kd ((ma_kde Kh808 (k791)))
  have k834 := Xh810.kd ((ma_kde Kh808 (k792)))
  have k835 := Xh810.kd ((ma_kde Kh808 (k793)))
  have k836 := Xh810.kd ((ma_kde Kh808 (k794)))
  have k837 := Xh810.kd ((ma_kde Kh808 (k795)))
  have k838 := Xh810.kd ((ma_kde Kh808 (k796)))
  have k839 := Xh810.kd ((ma_kde Kh808 (k797)))
  have k840 := Xh810.kd ((ma_kde Kh808 (k798)))
  have k841 := Xh810.kd ((ma_kde Kh808 (k799)))
  have k842 := Xh810.kd ((ma_kde Kh808 (k800)))
  have k843 := Xh810.kd ((ma_kde Kh808 (k801)))
  have k844 := Xh810.kd ((ma_kde Kh808 (k802)))
  have k845 := Xh810.kd ((ma_kde Kh808 (k803)))
  have k846 := Xh810.kd ((ma_kde Kh808 (k804)))
  have k847 : ah_kd h810 (ah_sz h808) = 40 := by rw [eh810]; exact if_pos rfl
  obtain ⟨k848, H⟩ := H
  refine mx_putA 8 59 (ref := "PrairiePoolModel") cl_8 (Nat.le_of_ble_eq_true rfl) (Or.inl q1686) (Or.inl rfl) dX8_init_300 (Or.inr ⟨rfl, rfl, rfl, q1686⟩) rfl (Or.inr k848) k812 ?_
  refine mx_nmR (ah_ext.wR (Or.inr (Or.inl k848))) (fun h849 eh849 Xh849 Kh849 Lh849 => ?_)
  have H := H h849 eh849 Xh849
  refine mx_aload_n dX8_init_303 rfl rfl ?_
  refine mx_iconst dX8_init_304 ic_4 ?_
  obtain ⟨k850, H⟩ := H
  refine mx_newa 0 rfl (by decide) q205 dX8_init_305 cn_4 (by decide) k850.1 k850.2 (by decide) (fun x_ lv_ => ?_)
  refine mx_nmN x_ lv_ (fun h851 eh851 Xh851 lv_ => ?_)
  have H := H h851 eh851 Xh851 lv_
  have k852 := Xh851.kd ((ma_kde Kh849 (k811)))
  have k853 := Xh851.kd ((ma_kde Kh849 (k812)))
  have k854 := Xh851.kd ((ma_kde Kh849 (k813)))
  have k855 := Xh851.kd ((ma_kde Kh849 (k814)))
  have k856 := Xh851.kd ((ma_kde Kh849 (k815)))
  have k857 := Xh851.kd ((ma_kde Kh849 (k816)))
  have k858 := Xh851.kd ((ma_kde Kh849 (k817)))
  have k859 := Xh851.kd ((ma_kde Kh849 (k818)))
  have k860 := Xh851.kd ((ma_kde Kh849 (k819)))
  have k861 := Xh851.kd ((ma_kde Kh849 (k820)))
  have k862 := Xh851.kd ((ma_kde Kh849 (k821)))
  have k863 := Xh851.kd ((ma_kde Kh849 (k822)))
  have k864 := Xh851.kd ((ma_kde Kh849 (k823)))
  have k865 := Xh851.kd ((ma_kde Kh849 (k824)))
  have k866 := Xh851.kd ((ma_kde Kh849 (k825)))
  have k867 := Xh851.kd ((ma_kde Kh849 (k826)))
  have k868 := Xh851.kd ((ma_kde Kh849 (k827)))
  have k869 := Xh851.kd ((ma_kde Kh849 (k828)))
  have k870 := Xh851.kd ((ma_kde Kh849 (k829)))
  have k871 := Xh851.kd ((ma_kde Kh849 (k830)))
  have k872 := Xh851.kd ((ma_kde Kh849 (k831)))
  have k873 := Xh851.kd ((ma_kde Kh849 (k832)))
  have k874 := Xh851.kd ((ma_kde Kh849 (k833)))
  have k875 := Xh851.kd ((ma_kde Kh849 (k834)))
  have k876 := Xh851.kd ((ma_kde Kh849 (k835)))
  have k877 := Xh851.kd ((ma_kde Kh849 (k836)))
  have k878 := Xh851.kd ((ma_kde Kh849 (k837)))
  have k879 := Xh851.kd ((ma_kde Kh849 (k838)))
  have k880 := Xh851.kd ((ma_kde Kh849 (k839)))
  have k881 := Xh851.kd ((ma_kde Kh849 (k840)))
  have k882 := Xh851.kd ((ma_kde Kh849 (k841)))
  have k883 := Xh851.kd ((ma_kde Kh849 (k842)))
  have k884 := Xh851.kd ((ma_kde Kh849 (k843)))
  have k885 := Xh851.kd ((ma_kde Kh849 (k844)))
  have k886 := Xh851.kd ((ma_kde Kh849 (k845)))
  have k887 := Xh851.kd ((ma_kde Kh849 (k846)))
  have k888 := Xh851.kd ((ma_kde Kh849 (k847)))
  have k889 : ah_kd h851 (ah_sz h849) = 40 := by rw [eh851]; exact if_pos rfl
  obtain ⟨k890, H⟩ := H
  refine mx_putA 8 60 (ref := "PrairiePoolModel") cl_8 (Nat.le_of_ble_eq_true rfl) (Or.inl q1687) (Or.inl rfl) dX8_init_307 (Or.inr ⟨rfl, rfl, rfl, q1687⟩) rfl (Or.inr k890) k853 ?_
  refine mx_nmR (ah_ext.wR (Or.inr (Or.inl k890))) (fun h891 eh891 Xh891 Kh891 Lh891 => ?_)
  have H := H h891 eh891 Xh891
  refine mx_aload_n dX8_init_310 rfl rfl ?_
  refine mx_bipush dX8_init_311 ib_44 ?_
  obtain ⟨k892, H⟩ := H
  refine mx_newa 0 rfl (by decide) q205 dX8_init_313 cn_44 (by decide) k892.1 k892.2 (by decide) (fun x_ lv_ => ?_)
  refine mx_nmN x_ lv_ (fun h893 eh893 Xh893 lv_ => ?_)
  have H := H h893 eh893 Xh893 lv_
  have k894 := Xh893.kd ((ma_kde Kh891 (k852)))
  have k895 := Xh893.kd ((ma_kde Kh891 (k853)))
  have k896 := Xh893.kd ((ma_kde Kh891 (k854)))
  have k897 := Xh893.kd ((ma_kde Kh891 (k855)))
  have k898 := Xh893.kd ((ma_kde Kh891 (k856)))
  have k899 := Xh893.kd ((ma_kde Kh891 (k857)))
  have k900 := Xh893.kd ((ma_kde Kh891 (k858)))
  have k901 := Xh893.kd ((ma_kde Kh891 (k859)))
  have k902 := Xh893.kd ((ma_kde Kh891 (k860)))
  have k903 := Xh893.kd ((ma_kde Kh891 (k861)))
  have k904 := Xh893.kd ((ma_kde Kh891 (k862)))
  have k905 := Xh893.kd ((ma_kde Kh891 (k863)))
  have k906 := Xh893.kd ((ma_kde Kh891 (k864)))
  have k907 := Xh893.kd ((ma_kde Kh891 (k865)))
  have k908 := Xh893.kd ((ma_kde Kh891 (k866)))
  have k909 := Xh893.kd ((ma_kde Kh891 (k867)))
  have k910 := Xh893.kd ((ma_kde Kh891 (k868)))
  have k911 := Xh893.kd ((ma_kde Kh891 (k869)))
  have k912 := Xh893.kd ((ma_kde Kh891 (k870)))
  have k913 := Xh893.kd ((ma_kde Kh891 (k871)))
  have k914 := Xh893.kd ((ma_kde Kh891 (k872)))
  have k915 := Xh893.kd ((ma_kde Kh891 (k873)))
  have k916 := Xh893.kd ((ma_kde Kh891 (k874)))
  have k917 := Xh893.kd ((ma_kde Kh891 (k875)))
  have k918 := Xh893.kd ((ma_kde Kh891 (k876)))
  have k919 := Xh893.kd ((ma_kde Kh891 (k877)))
  have k920 := Xh893.kd ((ma_kde Kh891 (k878)))
  have k921 := Xh893.kd ((ma_kde Kh891 (k879)))
  have k922 := Xh893.kd ((ma_kde Kh891 (k880)))
  have k923 := Xh893.kd ((ma_kde Kh891 (k881)))
  have k924 := Xh893.kd ((ma_kde Kh891 (k882)))
  have k925 := Xh893.kd ((ma_kde Kh891 (k883)))
  have k926 := Xh893.kd ((ma_kde Kh891 (k884)))
  have k927 := Xh893.kd ((ma_kde Kh891 (k885)))
  have k928 := Xh893.kd ((ma_kde Kh891 (k886)))
  have k929 := Xh893.kd ((ma_kde Kh891 (k887)))
  have k930 := Xh893.kd ((ma_kde Kh891 (k888)))
  have k931 := Xh893.kd ((ma_kde Kh891 (k889)))
  have k932 : ah_kd h893 (ah_sz h891) = 40 := by rw [eh893]; exact if_pos rfl
  obtain ⟨k933, H⟩ := H
  refine mx_putA 8 61 (ref := "PrairiePoolModel") cl_8 (Nat.le_of_ble_eq_true rfl) (Or.inl q1688) (Or.inl rfl) dX8_init_315 (Or.inr ⟨rfl, rfl, rfl, q1688⟩) rfl (Or.inr k933) k895 ?_
  refine mx_nmR (ah_ext.wR (Or.inr (Or.inl k933))) (fun h934 eh934 Xh934 Kh934 Lh934 => ?_)
  have H := H h934 eh934 Xh934
  refine mx_aload_n dX8_init_318 rfl rfl ?_
  refine mx_sipush dX8_init_319 is_4400 ?_
  obtain ⟨k935, H⟩ := H
  refine mx_newa 0 rfl (by decide) q205 dX8_init_322 cn_4400 (by decide) k935.1 k935.2 (by decide) (fun x_ lv_ => ?_)
  refine mx_nmN x_ lv_ (fun h936 eh936 Xh936 lv_ => ?_)
  have H := H h936 eh936 Xh936 lv_
  have k937 := Xh936.kd ((ma_kde Kh934 (k894)))
  have k938 := Xh936.kd ((ma_kde Kh934 (k895)))
  have k939 := Xh936.kd ((ma_kde Kh934 (k896)))
  have k940 := Xh936.kd ((ma_kde Kh934 (k897)))
  have k941 := Xh936.kd ((ma_kde Kh934 (k898)))
  have k942 := Xh936.kd ((ma_kde Kh934 (k899)))
  have k943 := Xh936.kd ((ma_kde Kh934 (k900)))
  have k944 := Xh936.kd ((ma_kde Kh934 (k901)))
  have k945 := Xh936.kd ((ma_kde Kh934 (k902)))
  have k946 := Xh936.kd ((ma_kde Kh934 (k903)))
  have k947 := Xh936.kd ((ma_kde Kh934 (k904)))
  have k948 := Xh936.kd ((ma_kde Kh934 (k905)))
  have k949 := Xh936.kd ((ma_kde Kh934 (k906)))
  have k950 := Xh936.kd ((ma_kde Kh934 (k907)))
  have k951 := Xh936.kd ((ma_kde Kh934 (k908)))
  have k952 := Xh936.kd ((ma_kde Kh934 (k909)))
  have k953 := Xh936.kd ((ma_kde Kh934 (k910)))
  have k954 := Xh936.kd ((ma_kde Kh934 (k911)))
  have k955 := Xh936.kd ((ma_kde Kh934 (k912)))
  have k956 := Xh936.kd ((ma_kde Kh934 (k913)))
  have k957 := Xh936.kd ((ma_kde Kh934 (k914)))
  have k958 := Xh936.kd ((ma_kde Kh934 (k915)))
  have k959 := Xh936.kd ((ma_kde Kh934 (k916)))
  have k960 := Xh936.kd ((ma_kde Kh934 (k917)))
  have k961 := Xh936.kd ((ma_kde Kh934 (k918)))
  have k962 := Xh936.kd ((ma_kde Kh934 (k919)))
  have k963 := Xh936.kd ((ma_kde Kh934 (k920)))
  have k964 := Xh936.kd ((ma_kde Kh934 (k921)))
  have k965 := Xh936.kd ((ma_kde Kh934 (k922)))
  have k966 := Xh936.kd ((ma_kde Kh934 (k923)))
  have k967 := Xh936.kd ((ma_kde Kh934 (k924)))
  have k968 := Xh936.kd ((ma_kde Kh934 (k925)))
  have k969 := Xh936.kd ((ma_kde Kh934 (k926)))
  have k970 := Xh936.kd ((ma_kde Kh934 (k927)))
  have k971 := Xh936.kd ((ma_kde Kh934 (k928)))
  have k972 := Xh936.kd ((ma_kde Kh934 (k929)))
  have k973 := Xh936.kd ((ma_kde Kh934 (k930)))
  have k974 := Xh936.kd ((ma_kde Kh934 (k931)))
  have k975 := Xh936.kd ((ma_kde Kh934 (k932)))
  have k976 : ah_kd h936 (ah_sz h934) = 40 := by rw [eh936]; exact if_pos rfl
  obtain ⟨k977, H⟩ := H
  refine mx_putA 8 62 (ref := "PrairiePoolModel") cl_8 (Nat.le_of_ble_eq_true rfl) (Or.inl q1689) (Or.inl rfl) dX8_init_324 (Or.inr ⟨rfl, rfl, rfl, q1689⟩) rfl (Or.inr k977) k938 ?_
  refine mx_nmR (ah_ext.wR (Or.inr (Or.inl k977))) (fun h978 eh978 Xh978 Kh978 Lh978 => ?_)
  have H := H h978 eh978 Xh978
  refine mx_aload_n dX8_init_327 rfl rfl ?_
  refine mx_bipush dX8_init_328 ib_11 ?_
  obtain ⟨k979, H⟩ := H
  refine mx_newa 0 rfl (by decide) q205 dX8_init_330 cn_11 (by decide) k979.1 k979.2 (by decide) (fun x_ lv_ => ?_)
  refine mx_nmN x_ lv_ (fun h980 eh980 Xh980 lv_ => ?_)
  have H := H h980 eh980 Xh980 lv_
  have k981 := Xh980.kd ((ma_kde Kh978 (k937)))
  have k982 := Xh980.kd ((ma_kde Kh978 (k938)))
  have k983 := Xh980.kd ((ma_kde Kh978 (k939)))
  have k984 := Xh980.kd ((ma_kde Kh978 (k940)))
  have k985 := Xh980.kd ((ma_kde Kh978 (k941)))
  have k986 := Xh980.kd ((ma_kde Kh978 (k942)))
  have k987 := Xh980.kd ((ma_kde Kh978 (k943)))
  have k988 := Xh980.kd ((ma_kde Kh978 (k944)))
  have k989 := Xh980.kd ((ma_kde Kh978 (k945)))
  have k990 := Xh980.kd ((ma_kde Kh978 (k946)))
  have k991 := Xh980.kd ((ma_kde Kh978 (k947)))
  have k992 := Xh980.kd ((ma_kde Kh978 (k948)))
  have k993 := Xh980.kd ((ma_kde Kh978 (k949)))
  have k994 := Xh980.kd ((ma_kde Kh978 (k950)))
  have k995 := Xh980.kd ((ma_kde Kh978 (k951)))
  have k996 := Xh980.kd ((ma_kde Kh978 (k952)))
  have k997 := Xh980.kd ((ma_kde Kh978 (k953)))
  have k998 := Xh980.kd ((ma_kde Kh978 (k954)))
  have k999 := Xh980.kd ((ma_kde Kh978 (k955)))
  have k1000 := Xh980.kd ((ma_kde Kh978 (k956)))
  have k1001 := Xh980.kd ((ma_kde Kh978 (k957)))
  have k1002 := Xh980.kd ((ma_kde Kh978 (k958)))
  have k1003 := Xh980.kd ((ma_kde Kh978 (k959)))
  have k1004 := Xh980.kd ((ma_kde Kh978 (k960)))
  have k1005 := Xh980.kd ((ma_kde Kh978 (k961)))
  have k1006 := Xh980.kd ((ma_kde Kh978 (k962)))
  have k1007 := Xh980.kd ((ma_kde Kh978 (k963)))
  have k1008 := Xh980.kd ((ma_kde Kh978 (k964)))
  have k1009 := Xh980.kd ((ma_kde Kh978 (k965)))
  have k1010 := Xh980.kd ((ma_kde Kh978 (k966)))
  have k1011 := Xh980.kd ((ma_kde Kh978 (k967)))
  have k1012 := Xh980.kd ((ma_kde Kh978 (k968)))
  have k1013 := Xh980.kd ((ma_kde Kh978 (k969)))
  have k1014 := Xh980.kd ((ma_kde Kh978 (k970)))
  have k1015 := Xh980.kd ((ma_kde Kh978 (k971)))
  have k1016 := Xh980.kd ((ma_kde Kh978 (k972)))
  have k1017 := Xh980.kd ((ma_kde Kh978 (k973)))
  have k1018 := Xh980.kd ((ma_kde Kh978 (k974)))
  have k1019 := Xh980.kd ((ma_kde Kh978 (k975)))
  have k1020 := Xh980.kd ((ma_kde Kh978 (k976)))
  have k1021 : ah_kd h980 (ah_sz h978) = 40 := by rw [eh980]; exact if_pos rfl
  obtain ⟨k1022, H⟩ := H
  refine mx_putA 8 63 (ref := "PrairiePoolModel") cl_8 (Nat.le_of_ble_eq_true rfl) (Or.inl q1690) (Or.inl rfl) dX8_init_332 (Or.inr ⟨rfl, rfl, rfl, q1690⟩) rfl (Or.inr k1022) k982 ?_
  refine mx_nmR (ah_ext.wR (Or.inr (Or.inl k1022))) (fun h1023 eh1023 Xh1023 Kh1023 Lh1023 => ?_)
  have H := H h1023 eh1023 Xh1023
  refine mx_aload_n dX8_init_335 rfl rfl ?_
  refine mx_sipush dX8_init_336 is_1100 ?_
  obtain ⟨k1024, H⟩ := H
  refine mx_newa 0 rfl (by decide) q205 dX8_init_339 cn_1100 (by decide) k1024.1 k1024.2 (by decide) (fun x_ lv_ => ?_)
  refine mx_nmN x_ lv_ (fun h1025 eh1025 Xh1025 lv_ => ?_)
  have H := H h1025 eh1025 Xh1025 lv_
  have k1026 := Xh1025.kd ((ma_kde Kh1023 (k981)))
  have k1027 := Xh1025.kd ((ma_kde Kh1023 (k982)))
  have k1028 := Xh1025.kd ((ma_kde Kh1023 (k983)))
  have k1029 := Xh1025.kd ((ma_kde Kh1023 (k984)))
  have k1030 := Xh1025.kd ((ma_kde Kh1023 (k985)))
  have k1031 := Xh1025.kd ((ma_kde Kh1023 (k986)))
  have k1032 := Xh1025.kd ((ma_kde Kh1023 (k987)))
  have k1033 := Xh1025.kd ((ma_kde Kh1023 (k988)))
  have k1034 := Xh1025.kd ((ma_kde Kh1023 (k989)))
  have k1035 := Xh1025.kd ((ma_kde Kh1023 (k990)))
  have k1036 := Xh1025.kd ((ma_kde Kh1023 (k991)))
  have k1037 := Xh1025.kd ((ma_kde Kh1023 (k992)))
  have k1038 := Xh1025.kd ((ma_kde Kh1023 (k993)))
  have k1039 := Xh1025.kd ((ma_kde Kh1023 (k994)))
  have k1040 := Xh1025.kd ((ma_kde Kh1023 (k995)))
  have k1041 := Xh1025.kd ((ma_kde Kh1023 (k996)))
  have k1042 := Xh1025.kd ((ma_kde Kh1023 (k997)))
  have k1043 := Xh1025.kd ((ma_kde Kh1023 (k998)))
  have k1044 := Xh1025.kd ((ma_kde Kh1023 (k999)))
  have k1045 := Xh1025.kd ((ma_kde Kh1023 (k1000)))
  have k1046 := Xh1025.kd ((ma_kde Kh1023 (k1001)))
  have k1047 := Xh1025.kd ((ma_kde Kh1023 (k1002)))
  have k1048 := Xh1025.kd ((ma_kde Kh1023 (k1003)))
  have k1049 := Xh1025.kd ((ma_kde Kh1023 (k1004)))
  have k1050 := Xh1025.kd ((ma_kde Kh1023 (k1005)))
  have k1051 := Xh1025.kd ((ma_kde Kh1023 (k1006)))
  have k1052 := Xh1025.kd ((ma_kde Kh1023 (k1007)))
  have k1053 := Xh1025.kd ((ma_kde Kh1023 (k1008)))
  have k1054 := Xh1025.kd ((ma_kde Kh1023 (k1009)))
  have k1055 := Xh1025.kd ((ma_kde Kh1023 (k1010)))
  have k1056 := Xh1025.kd ((ma_kde Kh1023 (k1011)))
  have k1057 := Xh1025.kd ((ma_kde Kh1023 (k1012)))
  have k1058 := Xh1025.kd ((ma_kde Kh1023 (k1013)))
  have k1059 := Xh1025.kd ((ma_kde Kh1023 (k1014)))
  have k1060 := Xh1025.kd ((ma_kde Kh1023 (k1015)))
  have k1061 := Xh1025.kd ((ma_kde Kh1023 (k1016)))
  have k1062 := Xh1025.kd ((ma_kde Kh1023 (k1017)))
  have k1063 := Xh1025.kd ((ma_kde Kh1023 (k1018)))
  have k1064 := Xh1025.kd ((ma_kde Kh1023 (k1019)))
  have k1065 := Xh1025.kd ((ma_kde Kh1023 (k1020)))
  have k1066 := Xh1025.kd ((ma_kde Kh1023 (k1021)))
  have k1067 : ah_kd h1025 (ah_sz h1023) = 40 := by rw [eh1025]; exact if_pos rfl
  obtain ⟨k1068, H⟩ := H
  refine mx_putA 8 64 (ref := "PrairiePoolModel") cl_8 (Nat.le_of_ble_eq_true rfl) (Or.inl q1691) (Or.inl rfl) dX8_init_341 (Or.inr ⟨rfl, rfl, rfl, q1691⟩) rfl (Or.inr k1068) k1027 ?_
  refine mx_nmR (ah_ext.wR (Or.inr (Or.inl k1068))) (fun h1069 eh1069 Xh1069 Kh1069 Lh1069 => ?_)
  have H := H h1069 eh1069 Xh1069
  refine mx_aload_n dX8_init_344 rfl rfl ?_
  refine mx_bipush dX8_init_345 ib_40 ?_
  obtain ⟨k1070, H⟩ := H
  refine mx_newa 1 rfl (by decide) q206 dX8_init_347 cn_40 (by decide) k1070.1 k1070.2 (by decide) (fun x_ lv_ => ?_)
  refine mx_nmN x_ lv_ (fun h1071 eh1071 Xh1071 lv_ => ?_)
  have H := H h1071 eh1071 Xh1071 lv_
  have k1072 := Xh1071.kd ((ma_kde Kh1069 (k1026)))
  have k1073 := Xh1071.kd ((ma_kde Kh1069 (k1027)))
  have k1074 := Xh1071.kd ((ma_kde Kh1069 (k1028)))
  have k1075 := Xh1071.kd ((ma_kde Kh1069 (k1029)))
  have k1076 := Xh1071.kd ((ma_kde Kh1069 (k1030)))
  have k1077 := Xh1071.kd ((ma_kde Kh1069 (k1031)))
  have k1078 := Xh1071.kd ((ma_kde Kh1069 (k1032)))
  have k1079 := Xh1071.kd ((ma_kde Kh1069 (k1033)))
  have k1080 := Xh1071.kd ((ma_kde Kh1069 (k1034)))
  have k1081 := Xh1071.kd ((ma_kde Kh1069 (k1035)))
  have k1082 := Xh1071.kd ((ma_kde Kh1069 (k1036)))
  have k1083 := Xh1071.kd ((ma_kde Kh1069 (k1037)))
  have k1084 := Xh1071.kd ((ma_kde Kh1069 (k1038)))
  have k1085 := Xh1071.kd ((ma_kde Kh1069 (k1039)))
  have k1086 := Xh1071.kd ((ma_kde Kh1069 (k1040)))
  have k1087 := Xh1071.kd ((ma_kde Kh1069 (k1041)))
  have k1088 := Xh1071.kd ((ma_kde Kh1069 (k1042)))
  have k1089 := Xh1071.kd ((ma_kde Kh1069 (k1043)))
  have k1090 := Xh1071.kd ((ma_kde Kh1069 (k1044)))
  have k1091 := Xh1071.kd ((ma_kde Kh1069 (k1045)))
  have k1092 := Xh1071.kd ((ma_kde Kh1069 (k1046)))
  have k1093 := Xh1071.kd ((ma_kde Kh1069 (k1047)))
  have k1094 := Xh1071.kd ((ma_kde Kh1069 (k1048)))
  have k1095 := Xh1071.kd ((ma_kde Kh1069 (k1049)))
  have k1096 := Xh1071.kd ((ma_kde Kh1069 (k1050)))
  have k1097 := Xh1071.kd ((ma_kde Kh1069 (k1051)))
  have k1098 := Xh1071.kd ((ma_kde Kh1069 (k1052)))
  have k1099 := Xh1071.kd ((ma_kde Kh1069 (k1053)))
  have k1100 := Xh1071.kd ((ma_kde Kh1069 (k1054)))
  have k1101 := Xh1071.kd ((ma_kde Kh1069 (k1055)))
  have k1102 := Xh1071.kd ((ma_kde Kh1069 (k1056)))
  have k1103 := Xh1071.kd ((ma_kde Kh1069 (k1057)))
  have k1104 := Xh1071.kd ((ma_kde Kh1069 (k1058)))
  have k1105 := Xh1071.kd ((ma_kde Kh1069 (k1059)))
  have k1106 := Xh1071.kd ((ma_kde Kh1069 (k1060)))
  have k1107 := Xh1071.kd ((ma_kde Kh1069 (k1061)))
  have k1108 := Xh1071.kd ((ma_kde Kh1069 (k1062)))
  have k1109 := Xh1071.kd ((ma_kde Kh1069 (k1063)))
  have k1110 := Xh1071.kd ((ma_kde Kh1069 (k1064)))
  have k1111 := Xh1071.kd ((ma_kde Kh1069 (k1065)))
  have k1112 := Xh1071.kd ((ma_kde Kh1069 (k1066)))
  have k1113 := Xh1071.kd ((ma_kde Kh1069 (k1067)))
  have k1114 : ah_kd h1071 (ah_sz h1069) = 41 := by rw [eh1071]; exact if_pos rfl
  obtain ⟨k1115, H⟩ := H
  refine mx_putA 8 65 (ref := "PrairiePoolModel") cl_8 (Nat.le_of_ble_eq_true rfl) (Or.inl q1692) (Or.inl rfl) dX8_init_349 (Or.inr ⟨rfl, rfl, rfl, q1692⟩) rfl (Or.inr k1115) k1073 ?_
  refine mx_nmR (ah_ext.wR (Or.inr (Or.inl k1115))) (fun h1116 eh1116 Xh1116 Kh1116 Lh1116 => ?_)
  have H := H h1116 eh1116 Xh1116
  refine mx_aload_n dX8_init_352 rfl rfl ?_
  refine mx_bipush dX8_init_353 ib_10 ?_
  obtain ⟨k1117, H⟩ := H
  refine mx_newa 1 rfl (by decide) q206 dX8_init_355 cn_10 (by decide) k1117.1 k1117.2 (by decide) (fun x_ lv_ => ?_)
  refine mx_nmN x_ lv_ (fun h1118 eh1118 Xh1118 lv_ => ?_)
  have H := H h1118 eh1118 Xh1118 lv_
  have k1119 := Xh1118.kd ((ma_kde Kh1116 (k1072)))
  have k1120 := Xh1118.kd ((ma_kde Kh1116 (k1073)))
  have k1121 := Xh1118.kd ((ma_kde Kh1116 (k1074)))
  have k1122 := Xh1118.kd ((ma_kde Kh1116 (k1075)))
  have k1123 := Xh1118.kd ((ma_kde Kh1116 (k1076)))
  have k1124 := Xh1118.kd ((ma_kde Kh1116 (k1077)))
  have k1125 := Xh1118.kd ((ma_kde Kh1116 (k1078)))
  have k1126 := Xh1118.kd ((ma_kde Kh1116 (k1079)))
  have k1127 := Xh1118.kd ((ma_kde Kh1116 (k1080)))
  have k1128 := Xh1118.kd ((ma_kde Kh1116 (k1081)))
  have k1129 := Xh1118.kd ((ma_kde Kh1116 (k1082)))
  have k1130 := Xh1118.kd ((ma_kde Kh1116 (k1083)))
  have k1131 := Xh1118.kd ((ma_kde Kh1116 (k1084)))
  have k1132 := Xh1118.kd ((ma_kde Kh1116 (k1085)))
  have k1133 := Xh1118.kd ((ma_kde Kh1116 (k1086)))
  have k1134 := Xh1118.kd ((ma_kde Kh1116 (k1087)))
  have k1135 := Xh1118.kd ((ma_kde Kh1116 (k1088)))
  have k1136 := Xh1118.kd ((ma_kde Kh1116 (k1089)))
  have k1137 := Xh1118.kd ((ma_kde Kh1116 (k1090)))
  have k1138 := Xh1118.kd ((ma_kde Kh1116 (k1091)))
  have k1139 := Xh1118.kd ((ma_kde Kh1116 (k1092)))
  have k1140 := Xh1118.kd ((ma_kde Kh1116 (k1093)))
  have k1141 := Xh1118.kd ((ma_kde Kh1116 (k1094)))
  have k1142 := Xh1118.kd ((ma_kde Kh1116 (k1095)))
  have k1143 := Xh1118.kd ((ma_kde Kh1116 (k1096)))
  have k1144 := Xh1118.kd ((ma_kde Kh1116 (k1097)))
  have k1145 := Xh1118.kd ((ma_kde Kh1116 (k1098)))
  have k1146 := Xh1118.kd ((ma_kde Kh1116 (k1099)))
  have k1147 := Xh1118.kd ((ma_kde Kh1116 (k1100)))
  have k1148 := Xh1118.kd ((ma_kde Kh1116 (k1101)))
  have k1149 := Xh1118.kd ((ma_kde Kh1116 (k1102)))
  have k1150 := Xh1118.kd ((ma_kde Kh1116 (k1103)))
  have k1151 := Xh1118.kd ((ma_kde Kh1116 (k1104)))
  have k1152 := Xh1118.kd ((ma_kde Kh1116 (k1105)))
  have k1153 := Xh1118.kd ((ma_kde Kh1116 (k1106)))
  have k1154 := Xh1118.kd ((ma_kde Kh1116 (k1107)))
  have k1155 := Xh1118.kd ((ma_kde Kh1116 (k1108)))
  have k1156 := Xh1118.kd ((ma_kde Kh1116 (k1109)))
  have k1157 := Xh1118.kd ((ma_kde Kh1116 (k1110)))
  have k1158 := Xh1118.kd ((ma_kde Kh1116 (k1111)))
  have k1159 := Xh1118.kd ((ma_kde Kh1116 (k1112)))
  have k1160 := Xh1118.kd ((ma_kde Kh1116 (k1113)))
  have k1161 := Xh1118.kd ((ma_kde Kh1116 (k1114)))
  have k1162 : ah_kd h1118 (ah_sz h1116) = 41 := by rw [eh1118]; exact if_pos rfl
  obtain ⟨k1163, H⟩ := H
  refine mx_putA 8 66 (ref := "PrairiePoolModel") cl_8 (Nat.le_of_ble_eq_true rfl) (Or.inl q1693) (Or.inl rfl) dX8_init_357 (Or.inr ⟨rfl, rfl, rfl, q1693⟩) rfl (Or.inr k1163) k1120 ?_
  refine mx_nmR (ah_ext.wR (Or.inr (Or.inl k1163))) (fun h1164 eh1164 Xh1164 Kh1164 Lh1164 => ?_)
  have H := H h1164 eh1164 Xh1164
  refine mx_aload_n dX8_init_360 rfl rfl ?_
  refine mx_sipush dX8_init_361 is_600 ?_
  obtain ⟨k1165, H⟩ := H
  refine mx_newa 1 rfl (by decide) q206 dX8_init_364 cn_600 (by decide) k1165.1 k1165.2 (by decide) (fun x_ lv_ => ?_)
  refine mx_nmN x_ lv_ (fun h1166 eh1166 Xh1166 lv_ => ?_)
  have H := H h1166 eh1166 Xh1166 lv_
  have k1167 := Xh1166.kd ((ma_kde Kh1164 (k1119)))
  have k1168 := Xh1166.kd ((ma_kde Kh1164 (k1120)))
  have k1169 := Xh1166.kd ((ma_kde Kh1164 (k1121)))
  have k1170 := Xh1166.kd ((ma_kde Kh1164 (k1122)))
  have k1171 := Xh1166.kd ((ma_kde Kh1164 (k1123)))
  have k1172 := Xh1166.kd ((ma_kde Kh1164 (k1124)))
  have k1173 := Xh1166.kd ((ma_kde Kh1164 (k1125)))
  have k1174 := Xh1166.kd ((ma_kde Kh1164 (k1126)))
  have k1175 := Xh1166.kd ((ma_kde Kh1164 (k1127)))
  have k1176 := Xh1166.kd ((ma_kde Kh1164 (k1128)))
  have k1177 := Xh1166.kd ((ma_kde Kh1164 (k1129)))
  have k1178 := Xh1166.kd ((ma_kde Kh1164 (k1130)))
  have k1179 := Xh1166.kd ((ma_kde Kh1164 (k1131)))
  have k1180 := Xh1166.kd ((ma_kde Kh1164 (k1132)))
  have k1181 := Xh1166.kd ((ma_kde Kh1164 (k1133)))
  have k1182 := Xh1166.kd ((ma_kde Kh1164 (k1134)))
  have k1183 := Xh1166.kd ((ma_kde Kh1164 (k1135)))
  have k1184 := Xh1166.kd ((ma_kde Kh1164 (k1136)))
  have k1185 := Xh1166.kd ((ma_kde Kh1164 (k1137)))
  have k1186 := Xh1166.kd ((ma_kde Kh1164 (k1138)))
  have k1187 := Xh1166.kd ((ma_kde Kh1164 (k1139)))
  have k1188 := Xh1166.kd ((ma_kde Kh1164 (k1140)))
  have k1189 := Xh1166.kd ((ma_kde Kh1164 (k1141)))
  have k1190 := Xh1166.kd ((ma_kde Kh1164 (k1142)))
  have k1191 := Xh1166.kd ((ma_kde Kh1164 (k1143)))
  have k1192 := Xh1166.kd ((ma_kde Kh1164 (k1144)))
  have k1193 := Xh1166.kd ((ma_kde Kh1164 (k1145)))
  have k1194 := Xh1166.kd ((ma_kde Kh1164 (k1146)))
  have k1195 := Xh1166.kd ((ma_kde Kh1164 (k1147)))
  have k1196 := Xh1166.kd ((ma_kde Kh1164 (k1148)))
  have k1197 := Xh1166.kd ((ma_kde Kh1164 (k1149)))
  have k1198 := Xh1166.kd ((ma_kde Kh1164 (k1150)))
  have k1199 := Xh1166.kd ((ma_kde Kh1164 (k1151)))
  have k1200 := Xh1166.kd ((ma_kde Kh1164 (k1152)))
  have k1201 := Xh1166.kd ((ma_kde Kh1164 (k1153)))
  have k1202 := Xh1166.kd ((ma_kde Kh1164 (k1154)))
  have k1203 := Xh1166.kd ((ma_kde Kh1164 (k1155)))
  have k1204 := Xh1166.kd ((ma_kde Kh1164 (k1156)))
  have k1205 := Xh1166.kd ((ma_kde Kh1164 (k1157)))
  have k1206 := Xh1166.kd ((ma_kde Kh1164 (k1158)))
  have k1207 := Xh1166.kd ((ma_kde Kh1164 (k1159)))
  have k1208 := Xh1166.kd ((ma_kde Kh1164 (k1160)))
  have k1209 := Xh1166.kd ((ma_kde Kh1164 (k1161)))
  have k1210 := Xh1166.kd ((ma_kde Kh1164 (k1162)))
  have k1211 : ah_kd h1166 (ah_sz h1164) = 41 := by rw [eh1166]; exact if_pos rfl
  obtain ⟨k1212, H⟩ := H
  refine mx_putA 8 67 (ref := "PrairiePoolModel") cl_8 (Nat.le_of_ble_eq_true rfl) (Or.inl q1694) (Or.inl rfl) dX8_init_366 (Or.inr ⟨rfl, rfl, rfl, q1694⟩) rfl (Or.inr k1212) k1168 ?_
  refine mx_nmR (ah_ext.wR (Or.inr (Or.inl k1212))) (fun h1213 eh1213 Xh1213 Kh1213 Lh1213 => ?_)
  have H := H h1213 eh1213 Xh1213
  refine mx_aload_n dX8_init_369 rfl rfl ?_
  refine mx_bipush dX8_init_370 ib_11 ?_
  obtain ⟨k1214, H⟩ := H
  refine mx_newa 1 rfl (by decide) q206 dX8_init_372 cn_11 (by decide) k1214.1 k1214.2 (by decide) (fun x_ lv_ => ?_)
  refine mx_nmN x_ lv_ (fun h1215 eh1215 Xh1215 lv_ => ?_)
  have H := H h1215 eh1215 Xh1215 lv_
  have k1216 := Xh1215.kd ((ma_kde Kh1213 (k1167)))
  have k1217 := Xh1215.kd ((ma_kde Kh1213 (k1168)))
  have k1218 := Xh1215.kd ((ma_kde Kh1213 (k1169)))
  have k1219 := Xh1215.kd ((ma_kde Kh1213 (k1170)))
  have k1220 := Xh1215.kd ((ma_kde Kh1213 (k1171)))
  have k1221 := Xh1215.kd ((ma_kde Kh1213 (k1172)))
  have k1222 := Xh1215.kd ((ma_kde Kh1213 (k1173)))
  have k1223 := Xh1215.kd ((ma_kde Kh1213 (k1174)))
  have k1224 := Xh1215.kd ((ma_kde Kh1213 (k1175)))
  have k1225 := Xh1215.kd ((ma_kde Kh1213 (k1176)))
  have k1226 := Xh1215.kd ((ma_kde Kh1213 (k1177)))
  have k1227 := Xh1215.kd ((ma_kde Kh1213 (k1178)))
  have k1228 := Xh1215.kd ((ma_kde Kh1213 (k1179)))
  have k1229 := Xh1215.kd ((ma_kde Kh1213 (k1180)))
  have k1230 := Xh1215.kd ((ma_kde Kh1213 (k1181)))
  have k1231 := Xh1215.kd ((ma_kde Kh1213 (k1182)))
  have k1232 := Xh1215.kd ((ma_kde Kh1213 (k1183)))
  have k1233 := Xh1215.kd ((ma_kde Kh1213 (k1184)))
  have k1234 := Xh1215.kd ((ma_kde Kh1213 (k1185)))
  have k1235 := Xh1215.kd ((ma_kde Kh1213 (k1186)))
  have k1236 := Xh1215.kd ((ma_kde Kh1213 (k1187)))
  have k1237 := Xh1215.kd ((ma_kde Kh1213 (k1188)))
  have k1238 := Xh1215.kd ((ma_kde Kh1213 (k1189)))
  have k1239 := Xh1215.kd ((ma_kde Kh1213 (k1190)))
  have k1240 := Xh1215.kd ((ma_kde Kh1213 (k1191)))
  have k1241 := Xh1215.kd ((ma_kde Kh1213 (k1192)))
  have k1242 := Xh1215.kd ((ma_kde Kh1213 (k1193)))
  have k1243 := Xh1215.kd ((ma_kde Kh1213 (k1194)))
  have k1244 := Xh1215.kd ((ma_kde Kh1213 (k1195)))
  have k1245 := Xh1215.kd ((ma_kde Kh1213 (k1196)))
  have k1246 := Xh1215.kd ((ma_kde Kh1213 (k1197)))
  have k1247 := Xh1215.kd ((ma_kde Kh1213 (k1198)))
  have k1248 := Xh1215.kd ((ma_kde Kh1213 (k1199)))
  have k1249 := Xh1215.kd ((ma_kde Kh1213 (k1200)))
  have k1250 := Xh1215.kd ((ma_kde Kh1213 (k1201)))
  have k1251 := Xh1215.kd ((ma_kde Kh1213 (k1202)))
  have k1252 := Xh1215.kd ((ma_kde Kh1213 (k1203)))
  have k1253 := Xh1215.kd ((ma_kde Kh1213 (k1204)))
  have k1254 := Xh1215.kd ((ma_kde Kh1213 (k1205)))
  have k1255 := Xh1215.kd ((ma_kde Kh1213 (k1206)))
  have k1256 := Xh1215.kd ((ma_kde Kh1213 (k1207)))
  have k1257 := Xh1215.kd ((ma_kde Kh1213 (k1208)))
  have k1258 := Xh1215.kd ((ma_kde Kh1213 (k1209)))
  have k1259 := Xh1215.kd ((ma_kde Kh1213 (k1210)))
  have k1260 := Xh1215.kd ((ma_kde Kh1213 (k1211)))
  have k1261 : ah_kd h1215 (ah_sz h1213) = 41 := by rw [eh1215]; exact if_pos rfl
  obtain ⟨k1262, H⟩ := H
  refine mx_putA 8 68 (ref := "PrairiePoolModel") cl_8 (Nat.le_of_ble_eq_true rfl) (Or.inl q1695) (Or.inl rfl) dX8_init_374 (Or.inr ⟨rfl, rfl, rfl, q1695⟩) rfl (Or.inr k1262) k1217 ?_
  refine mx_nmR (ah_ext.wR (Or.inr (Or.inl k1262))) (fun h1263 eh1263 Xh1263 Kh1263 Lh1263 => ?_)
  have H := H h1263 eh1263 Xh1263
  refine mx_aload_n dX8_init_377 rfl rfl ?_
  refine mx_bipush dX8_init_378 ib_10 ?_
  obtain ⟨k1264, H⟩ := H
  refine mx_newa 1 rfl (by decide) q206 dX8_init_380 cn_10 (by decide) k1264.1 k1264.2 (by decide) (fun x_ lv_ => ?_)
  refine mx_nmN x_ lv_ (fun h1265 eh1265 Xh1265 lv_ => ?_)
  have H := H h1265 eh1265 Xh1265 lv_
  have k1266 := Xh1265.kd ((ma_kde Kh1263 (k1216)))
  have k1267 := Xh1265.kd ((ma_kde Kh1263 (k1217)))
  have k1268 := Xh1265.kd ((ma_kde Kh1263 (k1218)))
  have k1269 := Xh1265.kd ((ma_kde Kh1263 (k1219)))
  have k1270 := Xh1265.kd ((ma_kde Kh1263 (k1220)))
  have k1271 := Xh1265.kd ((ma_kde Kh1263 (k1221)))
  have k1272 := Xh1265.kd ((ma_kde Kh1263 (k1222)))
  have k1273 := Xh1265.kd ((ma_kde Kh1263 (k1223)))
  have k1274 := Xh1265.kd ((ma_kde Kh1263 (k1224)))
  have k1275 := Xh1265.kd ((ma_kde Kh1263 (k1225)))
  have k1276 := Xh1265.kd ((ma_kde Kh1263 (k1226)))
  have k1277 := Xh1265.kd ((ma_kde Kh1263 (k1227)))
  have k1278 := Xh1265.kd ((ma_kde Kh1263 (k1228)))
  have k1279 := Xh1265.kd ((ma_kde Kh1263 (k1229)))
  have k1280 := Xh1265.kd ((ma_kde Kh1263 (k1230)))
  have k1281 := Xh1265.kd ((ma_kde Kh1263 (k1231)))
  have k1282 := Xh1265.kd ((ma_kde Kh1263 (k1232)))
  have k1283 := Xh1265.kd ((ma_kde Kh1263 (k1233)))
  have k1284 := Xh1265.kd ((ma_kde Kh1263 (k1234)))
  have k1285 := Xh1265.kd ((ma_kde Kh1263 (k1235)))
  have k1286 := Xh1265.kd ((ma_kde Kh1263 (k1236)))
  have k1287 := Xh1265.kd ((ma_kde Kh1263 (k1237)))
  have k1288 := Xh1265.kd ((ma_kde Kh1263 (k1238)))
  have k1289 := Xh1265.kd ((ma_kde Kh1263 (k1239)))
  have k1290 := Xh1265.kd ((ma_kde Kh1263 (k1240)))
  have k1291 := Xh1265.kd ((ma_kde Kh1263 (k1241)))
  have k1292 := Xh1265.kd ((ma_kde Kh1263 (k1242)))
  have k1293 := Xh1265.kd ((ma_kde Kh1263 (k1243)))
  have k1294 := Xh1265.kd ((ma_kde Kh1263 (k1244)))
  have k1295 := Xh1265.kd ((ma_kde Kh1263 (k1245)))
  have k1296 := Xh1265.kd ((ma_kde Kh1263 (k1246)))
  have k1297 := Xh1265.kd ((ma_kde Kh1263 (k1247)))
  have k1298 := Xh1265.kd ((ma_kde Kh1263 (k1248)))
  have k1299 := Xh1265.kd ((ma_kde Kh1263 (k1249)))
  have k1300 := Xh1265.kd ((ma_kde Kh1263 (k1250)))
  have k1301 := Xh1265.kd ((ma_kde Kh1263 (k1251)))
  have k1302 := Xh1265.kd ((ma_kde Kh1263 (k1252)))
  have k1303 := Xh1265.kd ((ma_kde Kh1263 (k1253)))
  have k1304 := Xh1265.kd ((ma_kde Kh1263 (k1254)))
  have k1305 := Xh1265.kd ((ma_kde Kh1263 (k1255)))
  have k1306 := Xh1265.kd ((ma_kde Kh1263 (k1256)))
  have k1307 := Xh1265.kd ((ma_kde Kh1263 (k1257)))
  have k1308 := Xh1265.kd ((ma_kde Kh1263 (k1258)))
  have k1309 := Xh1265.kd ((ma_kde Kh1263 (k1259)))
  have k1310 := Xh1265.kd ((ma_kde Kh1263 (k1260)))
  have k1311 := Xh1265.kd ((ma_kde Kh1263 (k1261)))
  have k1312 : ah_kd h1265 (ah_sz h1263) = 41 := by rw [eh1265]; exact if_pos rfl
  obtain ⟨k1313, H⟩ := H
  refine mx_putA 8 69 (ref := "PrairiePoolModel") cl_8 (Nat.le_of_ble_eq_true rfl) (Or.inl q1696) (Or.inl rfl) dX8_init_382 (Or.inr ⟨rfl, rfl, rfl, q1696⟩) rfl (Or.inr k1313) k1267 ?_
  refine mx_nmR (ah_ext.wR (Or.inr (Or.inl k1313))) (fun h1314 eh1314 Xh1314 Kh1314 Lh1314 => ?_)
  have H := H h1314 eh1314 Xh1314
  refine mx_aload_n dX8_init_385 rfl rfl ?_
  refine mx_sipush dX8_init_386 is_600 ?_
  obtain ⟨k1315, H⟩ := H
  refine mx_newa 4 rfl (by decide) q441 dX8_init_389 cn_600 (by decide) k1315.1 k1315.2 (by decide) (fun x_ lv_ => ?_)
  refine mx_nmN x_ lv_ (fun h1316 eh1316 Xh1316 lv_ => ?_)
  have H := H h1316 eh1316 Xh1316 lv_
  have k1317 := Xh1316.kd ((ma_kde Kh1314 (k1266)))
  have k1318 := Xh1316.kd ((ma_kde Kh1314 (k1267)))
  have k1319 := Xh1316.kd ((ma_kde Kh1314 (k1268)))
  have k1320 := Xh1316.kd ((ma_kde Kh1314 (k1269)))
  have k1321 := Xh1316.kd ((ma_kde Kh1314 (k1270)))
  have k1322 := Xh1316.kd ((ma_kde Kh1314 (k1271)))
  have k1323 := Xh1316.kd ((ma_kde Kh1314 (k1272)))
  have k1324 := Xh1316.kd ((ma_kde Kh1314 (k1273)))
  have k1325 := Xh1316.kd ((ma_kde Kh1314 (k1274)))
  have k1326 := Xh1316.kd ((ma_kde Kh1314 (k1275)))
  have k1327 := Xh1316.kd ((ma_kde Kh1314 (k1276)))
  have k1328 := Xh1316.kd ((ma_kde Kh1314 (k1277)))
  have k1329 := Xh1316.kd ((ma_kde Kh1314 (k1278)))
  have k1330 := Xh1316.kd ((ma_kde Kh1314 (k1279)))
  have k1331 := Xh1316.kd ((ma_kde Kh1314 (k1280)))
  have k1332 := Xh1316.kd ((ma_kde Kh1314 (k1281)))
  have k1333 := Xh1316.kd ((ma_kde Kh1314 (k1282)))
  have k1334 := Xh1316.kd ((ma_kde Kh1314 (k1283)))
  have k1335 := Xh1316.kd ((ma_kde Kh1314 (k1284)))
  have k1336 := Xh1316.kd ((ma_kde Kh1314 (k1285)))
  have k1337 := Xh1316.kd ((ma_kde Kh1314 (k1286)))
  have k1338 := Xh1316.kd ((ma_kde Kh1314 (k1287)))
  have k1339 := Xh1316.kd ((ma_kde Kh1314 (k1288)))
  have k1340 := Xh1316.kd ((ma_kde Kh1314 (k1289)))
  have k1341 := Xh1316.kd ((ma_kde Kh1314 (k1290)))
  have k1342 := Xh1316.kd ((ma_kde Kh1314 (k1291)))
  have k1343 := Xh1316.kd ((ma_kde Kh1314 (k1292)))
  have k1344 := Xh1316.kd ((ma_kde Kh1314 (k1293)))
  have k1345 := Xh1316.kd ((ma_kde Kh1314 (k1294)))
  have k1346 := Xh1316.kd ((ma_kde Kh1314 (k1295)))
  have k1347 := Xh1316.kd ((ma_kde Kh1314 (k1296)))
  have k1348 := Xh1316.kd ((ma_kde Kh1314 (k1297)))
  have k1349 := Xh1316.kd ((ma_kde Kh1314 (k1298)))
  have k1350 := Xh1316.kd ((ma_kde Kh1314 (k1299)))
  have k1351 := Xh1316.kd ((ma_kde Kh1314 (k1300)))
  have k1352 := Xh1316.kd ((ma_kde Kh1314 (k1301)))
  have k1353 := Xh1316.kd ((ma_kde Kh1314 (k1302)))
  have k1354 := Xh1316.kd ((ma_kde Kh1314 (k1303)))
  have k1355 := Xh1316.kd ((ma_kde Kh1314 (k1304)))
  have k1356 := Xh1316.kd ((ma_kde Kh1314 (k1305)))
  have k1357 := Xh1316.kd ((ma_kde Kh1314 (k1306)))
  have k1358 := Xh1316.kd ((ma_kde Kh1314 (k1307)))
  have k1359 := Xh1316.kd ((ma_kde Kh1314 (k1308)))
  have k1360 := Xh1316.kd ((ma_kde Kh1314 (k1309)))
  have k1361 := Xh1316.kd ((ma_kde Kh1314 (k1310)))
  have k1362 := Xh1316.kd ((ma_kde Kh1314 (k1311)))
  have k1363 := Xh1316.kd ((ma_kde Kh1314 (k1312)))
  have k1364 : ah_kd h1316 (ah_sz h1314) = 44 := by rw [eh1316]; exact if_pos rfl
  obtain ⟨k1365, H⟩ := H
  refine mx_putA 8 70 (ref := "PrairiePoolModel") cl_8 (Nat.le_of_ble_eq_true rfl) (Or.inl q1697) (Or.inl rfl) dX8_init_391 (Or.inr ⟨rfl, rfl, rfl, q1697⟩) rfl (Or.inr k1365) k1318 ?_
  refine mx_nmR (ah_ext.wR (Or.inr (Or.inl k1365))) (fun h1366 eh1366 Xh1366 Kh1366 Lh1366 => ?_)
  have H := H h1366 eh1366 Xh1366
  refine mx_aload_n dX8_init_394 rfl rfl ?_
  refine mx_bipush dX8_init_395 ib_10 ?_
  obtain ⟨k1367, H⟩ := H
  refine mx_newa 4 rfl (by decide) q441 dX8_init_397 cn_10 (by decide) k1367.1 k1367.2 (by decide) (fun x_ lv_ => ?_)
  refine mx_nmN x_ lv_ (fun h1368 eh1368 Xh1368 lv_ => ?_)
  have H := H h1368 eh1368 Xh1368 lv_
  have k1369 := Xh1368.kd ((ma_kde Kh1366 (k1317)))
  have k1370 := Xh1368.kd ((ma_kde Kh1366 (k1318)))
  have k1371 := Xh1368.kd ((ma_kde Kh1366 (k1319)))
  have k1372 := Xh1368.kd ((ma_kde Kh1366 (k1320)))
  have k1373 := Xh1368.kd ((ma_kde Kh1366 (k1321)))
  have k1374 := Xh1368.kd ((ma_kde Kh1366 (k1322)))
  have k1375 := Xh1368.kd ((ma_kde Kh1366 (k1323)))
  have k1376 := Xh1368.kd ((ma_kde Kh1366 (k1324)))
  have k1377 := Xh1368.kd ((ma_kde Kh1366 (k1325)))
  have k1378 := Xh1368.kd ((ma_kde Kh1366 (k1326)))
  have k1379 := Xh1368.kd ((ma_kde Kh1366 (k1327)))
  have k1380 := Xh1368.kd ((ma_kde Kh1366 (k1328)))
  have k1381 := Xh1368.kd ((ma_kde Kh1366 (k1329)))
  have k1382 := Xh1368.kd ((ma_kde Kh1366 (k1330)))
  have k1383 := Xh1368.kd ((ma_kde Kh1366 (k1331)))
  have k1384 := Xh1368.kd ((ma_kde Kh1366 (k1332)))
  have k1385 := Xh1368.kd ((ma_kde Kh1366 (k1333)))
  have k1386 := Xh1368.kd ((ma_kde Kh1366 (k1334)))
  have k1387 := Xh1368.kd ((ma_kde Kh1366 (k1335)))
  have k1388 := Xh1368.kd ((ma_kde Kh1366 (k1336)))
  have k1389 := Xh1368.kd ((ma_kde Kh1366 (k1337)))
  have k1390 := Xh1368.kd ((ma_kde Kh1366 (k1338)))
  have k1391 := Xh1368.kd ((ma_kde Kh1366 (k1339)))
  have k1392 := Xh1368.kd ((ma_kde Kh1366 (k1340)))
  have k1393 := Xh1368.kd ((ma_kde Kh1366 (k1341)))
  have k1394 := Xh1368.kd ((ma_kde Kh1366 (k1342)))
  have k1395 := Xh1368.kd ((ma_kde Kh1366 (k1343)))
  have k1396 := Xh1368.kd ((ma_kde Kh1366 (k1344)))
  have k1397 := Xh1368.kd ((ma_kde Kh1366 (k1345)))
  have k1398 := Xh1368.kd ((ma_kde Kh1366 (k1346)))
  have k1399 := Xh1368.kd ((ma_kde Kh1366 (k1347)))
  have k1400 := Xh1368.kd ((ma_kde Kh1366 (k1348)))
  have k1401 := Xh1368.kd ((ma_kde Kh1366 (k1349)))
  have k1402 := Xh1368.kd ((ma_kde Kh1366 (k1350)))
  have k1403 := Xh1368.kd ((ma_kde Kh1366 (k1351)))
  have k1404 := Xh1368.kd ((ma_kde Kh1366 (k1352)))
  have k1405 := Xh1368.kd ((ma_kde Kh1366 (k1353)))
  have k1406 := Xh1368.kd ((ma_kde Kh1366 (k1354)))
  have k1407 := Xh1368.kd ((ma_kde Kh1366 (k1355)))
  have k1408 := Xh1368.kd ((ma_kde Kh1366 (k1356)))
  have k1409 := Xh1368.kd ((ma_kde Kh1366 (k1357)))
  have k1410 := Xh1368.kd ((ma_kde Kh1366 (k1358)))
  have k1411 := Xh1368.kd ((ma_kde Kh1366 (k1359)))
  have k1412 := Xh1368.kd ((ma_kde Kh1366 (k1360)))
  have k1413 := Xh1368.kd ((ma_kde Kh1366 (k1361)))
  have k1414 := Xh1368.kd ((ma_kde Kh1366 (k1362)))
  have k1415 := Xh1368.kd ((ma_kde Kh1366 (k1363)))
  have k1416 := Xh1368.kd ((ma_kde Kh1366 (k1364)))
  have k1417 : ah_kd h1368 (ah_sz h1366) = 44 := by rw [eh1368]; exact if_pos rfl
  obtain ⟨k1418, H⟩ := H
  refine mx_putA 8 71 (ref := "PrairiePoolModel") cl_8 (Nat.le_of_ble_eq_true rfl) (Or.inl q1698) (Or.inl rfl) dX8_init_399 (Or.inr ⟨rfl, rfl, rfl, q1698⟩) rfl (Or.inr k1418) k1370 ?_
  refine mx_nmR (ah_ext.wR (Or.inr (Or.inl k1418))) (fun h1419 eh1419 Xh1419 Kh1419 Lh1419 => ?_)
  have H := H h1419 eh1419 Xh1419
  refine mx_aload_n dX8_init_402 rfl rfl ?_
  refine mx_bipush dX8_init_403 ib_20 ?_
  obtain ⟨k1420, H⟩ := H
  refine mx_newa 1 rfl (by decide) q206 dX8_init_405 cn_20 (by decide) k1420.1 k1420.2 (by decide) (fun x_ lv_ => ?_)
  refine mx_nmN x_ lv_ (fun h1421 eh1421 Xh1421 lv_ => ?_)
  have H := H h1421 eh1421 Xh1421 lv_
  have k1422 := Xh1421.kd ((ma_kde Kh1419 (k1369)))
  have k1423 := Xh1421.kd ((ma_kde Kh1419 (k1370)))
  have k1424 := Xh1421.kd ((ma_kde Kh1419 (k1371)))
  have k1425 := Xh1421.kd ((ma_kde Kh1419 (k1372)))
  have k1426 := Xh1421.kd ((ma_kde Kh1419 (k1373)))
  have k1427 := Xh1421.kd ((ma_kde Kh1419 (k1374)))
  have k1428 := Xh1421.kd ((ma_kde Kh1419 (k1375)))
  have k1429 := Xh1421.kd ((ma_kde Kh1419 (k1376)))
  have k1430 := Xh1421.kd ((ma_kde Kh1419 (k1377)))
  have k1431 := Xh1421.kd ((ma_kde Kh1419 (k1378)))
  have k1432 := Xh1421.kd ((ma_kde Kh1419 (k1379)))
  have k1433 := Xh1421.kd ((ma_kde Kh1419 (k1380)))
  have k1434 := Xh1421.kd ((ma_kde Kh1419 (k1381)))
  have k1435 := Xh1421.kd ((ma_kde Kh1419 (k1382)))
  have k1436 := Xh1421.kd ((ma_kde Kh1419 (k1383)))
  have k1437 := Xh1421.kd ((ma_kde Kh1419 (k1384)))
  have k1438 := Xh1421.kd ((ma_kde Kh1419 (k1385)))
  have k1439 := Xh1421.kd ((ma_kde Kh1419 (k1386)))
  have k1440 := Xh1421.kd ((ma_kde Kh1419 (k1387)))
  have k1441 := Xh1421.kd ((ma_kde Kh1419 (k1388)))
  have k1442 := Xh1421.kd ((ma_kde Kh1419 (k1389)))
  have k1443 := Xh1421.kd ((ma_kde Kh1419 (k1390)))
  have k1444 := Xh1421.kd ((ma_kde Kh1419 (k1391)))
  have k1445 := Xh1421.kd ((ma_kde Kh1419 (k1392)))
  have k1446 := Xh1421.kd ((ma_kde Kh1419 (k1393)))
  have k1447 := Xh1421.kd ((ma_kde Kh1419 (k1394)))
  have k1448 := Xh1421.kd ((ma_kde Kh1419 (k1395)))
  have k1449 := Xh1421.kd ((ma_kde Kh1419 (k1396)))
  have k1450 := Xh1421.kd ((ma_kde Kh1419 (k1397)))
  have k1451 := Xh1421.kd ((ma_kde Kh1419 (k1398)))
  have k1452 := Xh1421.kd ((ma_kde Kh1419 (k1399)))
  have k1453 := Xh1421.kd ((ma_kde Kh1419 (k1400)))
  have k1454 := Xh1421.kd ((ma_kde Kh1419 (k1401)))
  have k1455 := Xh1421.kd ((ma_kde Kh1419 (k1402)))
  have k1456 := Xh1421.kd ((ma_kde Kh1419 (k1403)))
  have k1457 := Xh1421.kd ((ma_kde Kh1419 (k1404)))
  have k1458 := Xh1421.kd ((ma_kde Kh1419 (k1405)))
  have k1459 := Xh1421.kd ((ma_kde Kh1419 (k1406)))
  have k1460 := Xh1421.kd ((ma_kde Kh1419 (k1407)))
  have k1461 := Xh1421.kd ((ma_kde Kh1419 (k1408)))
  have k1462 := Xh1421.kd ((ma_kde Kh1419 (k1409)))
  have k1463 := Xh1421.kd ((ma_kde Kh1419 (k1410)))
  have k1464 := Xh1421.kd ((ma_kde Kh1419 (k1411)))
  have k1465 := Xh1421.kd ((ma_kde Kh1419 (k1412)))
  have k1466 := Xh1421.kd ((ma_kde Kh1419 (k1413)))
  have k1467 := Xh1421.kd ((ma_kde Kh1419 (k1414)))
  have k1468 := Xh1421.kd ((ma_kde Kh1419 (k1415)))
  have k1469 := Xh1421.kd ((ma_kde Kh1419 (k1416)))
  have k1470 := Xh1421.kd ((ma_kde Kh1419 (k1417)))
  have k1471 : ah_kd h1421 (ah_sz h1419) = 41 := by rw [eh1421]; exact if_pos rfl
  obtain ⟨k1472, H⟩ := H
  refine mx_putA 8 73 (ref := "PrairiePoolModel") cl_8 (Nat.le_of_ble_eq_true rfl) (Or.inl q1700) (Or.inl rfl) dX8_init_407 (Or.inr ⟨rfl, rfl, rfl, q1700⟩) rfl (Or.inr k1472) k1423 ?_
  refine mx_nmR (ah_ext.wR (Or.inr (Or.inl k1472))) (fun h1473 eh1473 Xh1473 Kh1473 Lh1473 => ?_)
  have H := H h1473 eh1473 Xh1473
  refine mx_aload_n dX8_init_410 rfl rfl ?_
  refine mx_bipush dX8_init_411 ib_20 ?_
  obtain ⟨k1474, H⟩ := H
  refine mx_newa 1 rfl (by decide) q206 dX8_init_413 cn_20 (by decide) k1474.1 k1474.2 (by decide) (fun x_ lv_ => ?_)
  refine mx_nmN x_ lv_ (fun h1475 eh1475 Xh1475 lv_ => ?_)
  have H := H h1475 eh1475 Xh1475 lv_
  have k1476 := Xh1475.kd ((ma_kde Kh1473 (k1422)))
  have k1477 := Xh1475.kd ((ma_kde Kh1473 (k1423)))
  have k1478 := Xh1475.kd ((ma_kde Kh1473 (k1424)))
  have k1479 := Xh1475.kd ((ma_kde Kh1473 (k1425)))
  have k1480 := Xh1475.kd ((ma_kde Kh1473 (k1426)))
  have k1481 := Xh1475.kd ((ma_kde Kh1473 (k1427)))
  have k1482 := Xh1475.kd ((ma_kde Kh1473 (k1428)))
  have k1483 := Xh1475.kd ((ma_kde Kh1473 (k1429)))
  have k1484 := Xh1475.kd ((ma_kde Kh1473 (k1430)))
  have k1485 := Xh1475.kd ((ma_kde Kh1473 (k1431)))
  have k1486 := Xh1475.kd ((ma_kde Kh1473 (k1432)))
  have k1487 := Xh1475.kd ((ma_kde Kh1473 (k1433)))
  have k1488 := Xh1475.kd ((ma_kde Kh1473 (k1434)))
  have k1489 := Xh1475.kd ((ma_kde Kh1473 (k1435)))
  have k1490 := Xh1475.kd ((ma_kde Kh1473 (k1436)))
  have k1491 := Xh1475.kd ((ma_kde Kh1473 (k1437)))
  have k1492 := Xh1475.kd ((ma_kde Kh1473 (k1438)))
  have k1493 := Xh1475.kd ((ma_kde Kh1473 (k1439)))
  have k1494 := Xh1475.kd ((ma_kde Kh1473 (k1440)))
  have k1495 := Xh1475.kd ((ma_kde Kh1473 (k1441)))
  have k1496 := Xh1475.kd ((ma_kde Kh1473 (k1442)))
  have k1497 := Xh1475.kd ((ma_kde Kh1473 (k1443)))
  have k1498 := Xh1475.kd ((ma_kde Kh1473 (k1444)))
  have k1499 := Xh1475.kd ((ma_kde Kh1473 (k1445)))
  have k1500 := Xh1475.kd ((ma_kde Kh1473 (k1446)))
  have k1501 := Xh1475.kd ((ma_kde Kh1473 (k1447)))
  have k1502 := Xh1475.kd ((ma_kde Kh1473 (k1448)))
  have k1503 := Xh1475.kd ((ma_kde Kh1473 (k1449)))
  have k1504 := Xh1475.kd ((ma_kde Kh1473 (k1450)))
  have k1505 := Xh1475.kd ((ma_kde Kh1473 (k1451)))
  have k1506 := Xh1475.kd ((ma_kde Kh1473 (k1452)))
  have k1507 := Xh1475.kd ((ma_kde Kh1473 (k1453)))
  have k1508 := Xh1475.kd ((ma_kde Kh1473 (k1454)))
  have k1509 := Xh1475.kd ((ma_kde Kh1473 (k1455)))
  have k1510 := Xh1475.kd ((ma_kde Kh1473 (k1456)))
  have k1511 := Xh1475.kd ((ma_kde Kh1473 (k1457)))
  have k1512 := Xh1475.kd ((ma_kde Kh1473 (k1458)))
  have k1513 := Xh1475.kd ((ma_kde Kh1473 (k1459)))
  have k1514 := Xh1475.kd ((ma_kde Kh1473 (k1460)))
  have k1515 := Xh1475.kd ((ma_kde Kh1473 (k1461)))
  have k1516 := Xh1475.kd ((ma_kde Kh1473 (k1462)))
  have k1517 := Xh1475.kd ((ma_kde Kh1473 (k1463)))
  have k1518 := Xh1475.kd ((ma_kde Kh1473 (k1464)))
  have k1519 := Xh1475.kd ((ma_kde Kh1473 (k1465)))
  have k1520 := Xh1475.kd ((ma_kde Kh1473 (k1466)))
  have k1521 := Xh1475.kd ((ma_kde Kh1473 (k1467)))
  have k1522 := Xh1475.kd ((ma_kde Kh1473 (k1468)))
  have k1523 := Xh1475.kd ((ma_kde Kh1473 (k1469)))
  have k1524 := Xh1475.kd ((ma_kde Kh1473 (k1470)))
  have k1525 := Xh1475.kd ((ma_kde Kh1473 (k1471)))
  have k1526 : ah_kd h1475 (ah_sz h1473) = 41 := by rw [eh1475]; exact if_pos rfl
  obtain ⟨k1527, H⟩ := H
  refine mx_putA 8 74 (ref := "PrairiePoolModel") cl_8 (Nat.le_of_ble_eq_true rfl) (Or.inl q1701) (Or.inl rfl) dX8_init_415 (Or.inr ⟨rfl, rfl, rfl, q1701⟩) rfl (Or.inr k1527) k1477 ?_
  refine mx_nmR (ah_ext.wR (Or.inr (Or.inl k1527))) (fun h1528 eh1528 Xh1528 Kh1528 Lh1528 => ?_)
  have H := H h1528 eh1528 Xh1528
  refine mx_aload_n dX8_init_418 rfl rfl ?_
  refine mx_bipush dX8_init_419 ib_20 ?_
  obtain ⟨k1529, H⟩ := H
  refine mx_newa 1 rfl (by decide) q206 dX8_init_421 cn_20 (by decide) k1529.1 k1529.2 (by decide) (fun x_ lv_ => ?_)
  refine mx_nmN x_ lv_ (fun h1530 eh1530 Xh1530 lv_ => ?_)
  have H := H h1530 eh1530 Xh1530 lv_
  have k1531 := Xh1530.kd ((ma_kde Kh1528 (k1476)))
  have k1532 := Xh1530.kd ((ma_kde Kh1528 (k1477)))
  have k1533 := Xh1530.kd ((ma_kde Kh1528 (k1478)))
  have k1534 := Xh1530.kd ((ma_kde Kh1528 (k1479)))
  have k1535 := Xh1530.kd ((ma_kde Kh1528 (k1480)))
  have k1536 := Xh1530.kd ((ma_kde Kh1528 (k1481)))
  have k1537 := Xh1530.kd ((ma_kde Kh1528 (k1482)))
  have k1538 := Xh1530.kd ((ma_kde Kh1528 (k1483)))
  have k1539 := Xh1530.kd ((ma_kde Kh1528 (k1484)))
  have k1540 := Xh1530.kd ((ma_kde Kh1528 (k1485)))
  have k1541 := Xh1530.kd ((ma_kde Kh1528 (k1486)))
  have k1542 := Xh1530.kd ((ma_kde Kh1528 (k1487)))
  have k1543 := Xh1530.kd ((ma_kde Kh1528 (k1488)))
  have k1544 := Xh1530.kd ((ma_kde Kh1528 (k1489)))
  have k1545 := Xh1530.kd ((ma_kde Kh1528 (k1490)))
  have k1546 := Xh1530.kd ((ma_kde Kh1528 (k1491)))
  have k1547 := Xh1530.kd ((ma_kde Kh1528 (k1492)))
  have k1548 := Xh1530.kd ((ma_kde Kh1528 (k1493)))
  have k1549 := Xh1530.kd ((ma_kde Kh1528 (k1494)))
  have k1550 := Xh1530.kd ((ma_kde Kh1528 (k1495)))
  have k1551 := Xh1530.kd ((ma_kde Kh1528 (k1496)))
  have k1552 := Xh1530.kd ((ma_kde Kh1528 (k1497)))
  have k1553 := Xh1530.kd ((ma_kde Kh1528 (k1498)))
  have k1554 := Xh1530.kd ((ma_kde Kh1528 (k1499)))
  have k1555 := Xh1530.kd ((ma_kde Kh1528 (k1500)))
  have k1556 := Xh1530.kd ((ma_kde Kh1528 (k1501)))
  have k1557 := Xh1530.kd ((ma_kde Kh1528 (k1502)))
  have k1558 := Xh1530.kd ((ma_kde Kh1528 (k1503)))
  have k1559 := Xh1530.kd ((ma_kde Kh1528 (k1504)))
  have k1560 := Xh1530.kd ((ma_kde Kh1528 (k1505)))
  have k1561 := Xh1530.kd ((ma_kde Kh1528 (k1506)))
  have k1562 := Xh1530.kd ((ma_kde Kh1528 (k1507)))
  have k1563 := Xh1530.kd ((ma_kde Kh1528 (k1508)))
  have k1564 := Xh1530.kd ((ma_kde Kh1528 (k1509)))
  have k1565 := Xh1530.kd ((ma_kde Kh1528 (k1510)))
  have k1566 := Xh1530.kd ((ma_kde Kh1528 (k1511)))
  have k1567 := Xh1530.kd ((ma_kde Kh1528 (k1512)))
  have k1568 := Xh1530.kd ((ma_kde Kh1528 (k1513)))
  have k1569 := Xh1530.kd ((ma_kde Kh1528 (k1514)))
  have k1570 := Xh1530.kd ((ma_kde Kh1528 (k1515)))
  have k1571 := Xh1530.kd ((ma_kde Kh1528 (k1516)))
  have k1572 := Xh1530.kd ((ma_kde Kh1528 (k1517)))
  have k1573 := Xh1530.kd ((ma_kde Kh1528 (k1518)))
  have k1574 := Xh1530.kd ((ma_kde Kh1528 (k1519)))
  have k1575 := Xh1530.kd ((ma_kde Kh1528 (k1520)))
  have k1576 := Xh1530.kd ((ma_kde Kh1528 (k1521)))
  have k1577 := Xh1530.kd ((ma_kde Kh1528 (k1522)))
  have k1578 := Xh1530.kd ((ma_kde Kh1528 (k1523)))
  have k1579 := Xh1530.kd ((ma_kde Kh1528 (k1524)))
  have k1580 := Xh1530.kd ((ma_kde Kh1528 (k1525)))
  have k1581 := Xh1530.kd ((ma_kde Kh1528 (k1526)))
  have k1582 : ah_kd h1530 (ah_sz h1528) = 41 := by rw [eh1530]; exact if_pos rfl
  obtain ⟨k1583, H⟩ := H
  refine mx_putA 8 75 (ref := "PrairiePoolModel") cl_8 (Nat.le_of_ble_eq_true rfl) (Or.inl q1702) (Or.inl rfl) dX8_init_423 (Or.inr ⟨rfl, rfl, rfl, q1702⟩) rfl (Or.inr k1583) k1532 ?_
  refine mx_nmR (ah_ext.wR (Or.inr (Or.inl k1583))) (fun h1584 eh1584 Xh1584 Kh1584 Lh1584 => ?_)
  have H := H h1584 eh1584 Xh1584
  refine mx_aload_n dX8_init_426 rfl rfl ?_
  refine mx_bipush dX8_init_427 ib_20 ?_
  obtain ⟨k1585, H⟩ := H
  refine mx_newa 1 rfl (by decide) q206 dX8_init_429 cn_20 (by decide) k1585.1 k1585.2 (by decide) (fun x_ lv_ => ?_)
  refine mx_nmN x_ lv_ (fun h1586 eh1586 Xh1586 lv_ => ?_)
  have H := H h1586 eh1586 Xh1586 lv_
  have k1587 := Xh1586.kd ((ma_kde Kh1584 (k1531)))
  have k1588 := Xh1586.kd ((ma_kde Kh1584 (k1532)))
  have k1589 := Xh1586.kd ((ma_kde Kh1584 (k1533)))
  have k1590 := Xh1586.kd ((ma_kde Kh1584 (k1534)))
  have k1591 := Xh1586.kd ((ma_kde Kh1584 (k1535)))
  have k1592 := Xh1586.kd ((ma_kde Kh1584 (k1536)))
  have k1593 := Xh1586.kd ((ma_kde Kh1584 (k1537)))
  have k1594 := Xh1586.kd ((ma_kde Kh1584 (k1538)))
  have k1595 := Xh1586.kd ((ma_kde Kh1584 (k1539)))
  have k1596 := Xh1586.kd ((ma_kde Kh1584 (k1540)))
  have k1597 := Xh1586.kd ((ma_kde Kh1584 (k1541)))
  have k1598 := Xh1586.kd ((ma_kde Kh1584 (k1542)))
  have k1599 := Xh1586.kd ((ma_kde Kh1584 (k1543)))
  have k1600 := Xh1586.kd ((ma_kde Kh1584 (k1544)))
  have k1601 := Xh1586.kd ((ma_kde Kh1584 (k1545)))
  have k1602 := Xh1586.kd ((ma_kde Kh1584 (k1546)))
  have k1603 := Xh1586.kd ((ma_kde Kh1584 (k1547)))
  have k1604 := Xh1586.kd ((ma_kde Kh1584 (k1548)))
  have k1605 := Xh1586.kd ((ma_kde Kh1584 (k1549)))
  have k1606 := Xh1586.kd ((ma_kde Kh1584 (k1550)))
  have k1607 := Xh1586.kd ((ma_kde Kh1584 (k1551)))
  have k1608 := Xh1586.kd ((ma_kde Kh1584 (k1552)))
  have k1609 := Xh1586.kd ((ma_kde Kh1584 (k1553)))
  have k1610 := Xh1586.kd ((ma_kde Kh1584 (k1554)))
  have k1611 := Xh1586.kd ((ma_kde Kh1584 (k1555)))
  have k1612 := Xh1586.kd ((ma_kde Kh1584 (k1556)))
  have k1613 := Xh1586.kd ((ma_kde Kh1584 (k1557)))
  have k1614 := Xh1586.kd ((ma_kde Kh1584 (k1558)))
  have k1615 := Xh1586.kd ((ma_kde Kh1584 (k1559)))
  have k1616 := Xh1586.kd ((ma_kde Kh1584 (k1560)))
  have k1617 := Xh1586.kd ((ma_kde Kh1584 (k1561)))
  have k1618 := Xh1586.kd ((ma_kde Kh1584 (k1562)))
  have k1619 := Xh1586.kd ((ma_kde Kh1584 (k1563)))
  have k1620 := Xh1586.kd ((ma_kde Kh1584 (k1564)))
  have k1621 := Xh1586.kd ((ma_kde Kh1584 (k1565)))
  have k1622 := Xh1586.kd ((ma_kde Kh1584 (k1566)))
  have k1623 := Xh1586.kd ((ma_kde Kh1584 (k1567)))
  have k1624 := Xh1586.kd ((ma_kde Kh1584 (k1568)))
  have k1625 := Xh1586.kd ((ma_kde Kh1584 (k1569)))
  have k1626 := Xh1586.kd ((ma_kde Kh1584 (k1570)))
  have k1627 := Xh1586.kd ((ma_kde Kh1584 (k1571)))
  have k1628 := Xh1586.kd ((ma_kde Kh1584 (k1572)))
  have k1629 := Xh1586.kd ((ma_kde Kh1584 (k1573)))
  have k1630 := Xh1586.kd ((ma_kde Kh1584 (k1574)))
  have k1631 := Xh1586.kd ((ma_kde Kh1584 (k1575)))
  have k1632 := Xh1586.kd ((ma_kde Kh1584 (k1576)))
  have k1633 := Xh1586.kd ((ma_kde Kh1584 (k1577)))
  have k1634 := Xh1586.kd ((ma_kde Kh1584 (k1578)))
  have k1635 := Xh1586.kd ((ma_kde Kh1584 (k1579)))
  have k1636 := Xh1586.kd ((ma_kde Kh1584 (k1580)))
  have k1637 := Xh1586.kd ((ma_kde Kh1584 (k1581)))
  have k1638 := Xh1586.kd ((ma_kde Kh1584 (k1582)))
  have k1639 : ah_kd h1586 (ah_sz h1584) = 41 := by rw [eh1586]; exact if_pos rfl
  obtain ⟨k1640, H⟩ := H
  refine mx_putA 8 76 (ref := "PrairiePoolModel") cl_8 (Nat.le_of_ble_eq_true rfl) (Or.inl q1703) (Or.inl rfl) dX8_init_431 (Or.inr ⟨rfl, rfl, rfl, q1703⟩) rfl (Or.inr k1640) k1588 ?_
  refine mx_nmR (ah_ext.wR (Or.inr (Or.inl k1640))) (fun h1641 eh1641 Xh1641 Kh1641 Lh1641 => ?_)
  have H := H h1641 eh1641 Xh1641
  refine mx_aload_n dX8_init_434 rfl rfl ?_
  refine mx_bipush dX8_init_435 ib_20 ?_
  obtain ⟨k1642, H⟩ := H
  refine mx_newa 0 rfl (by decide) q205 dX8_init_437 cn_20 (by decide) k1642.1 k1642.2 (by decide) (fun x_ lv_ => ?_)
  refine mx_nmN x_ lv_ (fun h1643 eh1643 Xh1643 lv_ => ?_)
  have H := H h1643 eh1643 Xh1643 lv_
  have k1644 := Xh1643.kd ((ma_kde Kh1641 (k1587)))
  have k1645 := Xh1643.kd ((ma_kde Kh1641 (k1588)))
  have k1646 := Xh1643.kd ((ma_kde Kh1641 (k1589)))
  have k1647 := Xh1643.kd ((ma_kde Kh1641 (k1590)))
  have k1648 := Xh1643.kd ((ma_kde Kh1641 (k1591)))
  have k1649 := Xh1643.kd ((ma_kde Kh1641 (k1592)))
  have k1650 := Xh1643.kd ((ma_kde Kh1641 (k1593)))
  have k1651 := Xh1643.kd ((ma_kde Kh1641 (k1594)))
  have k1652 := Xh1643.kd ((ma_kde Kh1641 (k1595)))
  have k1653 := Xh1643.kd ((ma_kde Kh1641 (k1596)))
  have k1654 := Xh1643.kd ((ma_kde Kh1641 (k1597)))
  have k1655 := Xh1643.kd ((ma_kde Kh1641 (k1598)))
  have k1656 := Xh1643.kd ((ma_kde Kh1641 (k1599)))
  have k1657 := Xh1643.kd ((ma_kde Kh1641 (k1600)))
  have k1658 := Xh1643.kd ((ma_kde Kh1641 (k1601)))
  have k1659 := Xh1643.kd ((ma_kde Kh1641 (k1602)))
  have k1660 := Xh1643.kd ((ma_kde Kh1641 (k1603)))
  have k1661 := Xh1643.kd ((ma_kde Kh1641 (k1604)))
  have k1662 := Xh1643.kd ((ma_kde Kh1641 (k1605)))
  have k1663 := Xh1643.kd ((ma_kde Kh1641 (k1606)))
  have k1664 := Xh1643.kd ((ma_kde Kh1641 (k1607)))
  have k1665 := Xh1643.kd ((ma_kde Kh1641 (k1608)))
  have k1666 := Xh1643.kd ((ma_kde Kh1641 (k1609)))
  have k1667 := Xh1643.kd ((ma_kde Kh1641 (k1610)))
  have k1668 := Xh1643.kd ((ma_kde Kh1641 (k1611)))
  have k1669 := Xh1643.kd ((ma_kde Kh1641 (k1612)))
  have k1670 := Xh1643.kd ((ma_kde Kh1641 (k1613)))
  have k1671 := Xh1643.kd ((ma_kde Kh1641 (k1614)))
  have k1672 := Xh1643.kd ((ma_kde Kh1641 (k1615)))
  have k1673 := Xh1643.kd ((ma_kde Kh1641 (k1616)))
  have k1674 := Xh1643.kd ((ma_kde Kh1641 (k1617)))
  have k1675 := Xh1643.kd ((ma_kde Kh1641 (k1618)))
  have k1676 := Xh1643.kd ((ma_kde Kh1641 (k1619)))
  have k1677 := Xh1643.kd ((ma_kde Kh1641 (k1620)))
  have k1678 := Xh1643.kd ((ma_kde Kh1641 (k1621)))
  have k1679 := Xh1643.kd ((ma_kde Kh1641 (k1622)))
  have k1680 := Xh1643.kd ((ma_kde Kh1641 (k1623)))
  have k1681 := Xh1643.kd ((ma_kde Kh1641 (k1624)))
  have k1682 := Xh1643.kd ((ma_kde Kh1641 (k1625)))
  have k1683 := Xh1643.kd ((ma_kde Kh1641 (k1626)))
  have k1684 := Xh1643.kd ((ma_kde Kh1641 (k1627)))
  have k1685 := Xh1643.kd ((ma_kde Kh1641 (k1628)))
  have k1686 := Xh1643.kd ((ma_kde Kh1641 (k1629)))
  have k1687 := Xh1643.kd ((ma_kde Kh1641 (k1630)))
  have k1688 := Xh1643.kd ((ma_kde Kh1641 (k1631)))
  have k1689 := Xh1643.kd ((ma_kde Kh1641 (k1632)))
  have k1690 := Xh1643.kd ((ma_kde Kh1641 (k1633)))
  have k1691 := Xh1643.kd ((ma_kde Kh1641 (k1634)))
  have k1692 := Xh1643.kd ((ma_kde Kh1641 (k1635)))
  have k1693 := Xh1643.kd ((ma_kde Kh1641 (k1636)))
  have k1694 := Xh1643.kd ((ma_kde Kh1641 (k1637)))
  have k1695 := Xh1643.kd ((ma_kde Kh1641 (k1638)))
  have k1696 := Xh1643.kd ((ma_kde Kh1641 (k1639)))
  have k1697 : ah_kd h1643 (ah_sz h1641) = 40 := by rw [eh1643]; exact if_pos rfl
  obtain ⟨k1698, H⟩ := H
  refine mx_putA 8 79 (ref := "PrairiePoolModel") cl_8 (Nat.le_of_ble_eq_true rfl) (Or.inl q1706) (Or.inl rfl) dX8_init_439 (Or.inr ⟨rfl, rfl, rfl, q1706⟩) rfl (Or.inr k1698) k1645 ?_
  refine mx_nmR (ah_ext.wR (Or.inr (Or.inl k1698))) (fun h1699 eh1699 Xh1699 Kh1699 Lh1699 => ?_)
  have H := H h1699 eh1699 Xh1699
  refine mx_aload_n dX8_init_442 rfl rfl ?_
  refine mx_bipush dX8_init_443 ib_20 ?_
  obtain ⟨k1700, H⟩ := H
  refine mx_newa 0 rfl (by decide) q205 dX8_init_445 cn_20 (by decide) k1700.1 k1700.2 (by decide) (fun x_ lv_ => ?_)
  refine mx_nmN x_ lv_ (fun h1701 eh1701 Xh1701 lv_ => ?_)
  have H := H h1701 eh1701 Xh1701 lv_
  have k1702 := Xh1701.kd ((ma_kde Kh1699 (k1644)))
  have k1703 := Xh1701.kd ((ma_kde Kh1699 (k1645)))
  have k1704 := Xh1701.kd ((ma_kde Kh1699 (k1646)))
  have k1705 := Xh1701.kd ((ma_kde Kh1699 (k1647)))
  have k1706 := Xh1701.kd ((ma_kde Kh1699 (k1648)))
  have k1707 := Xh1701.kd ((ma_kde Kh1699 (k1649)))
  have k1708 := Xh1701.kd ((ma_kde Kh1699 (k1650)))
  have k1709 := Xh1701.kd ((ma_kde Kh1699 (k1651)))
  have k1710 := Xh1701.kd ((ma_kde Kh1699 (k1652)))
  have k1711 := Xh1701.kd ((ma_kde Kh1699 (k1653)))
  have k1712 := Xh1701.kd ((ma_kde Kh1699 (k1654)))
  have k1713 := Xh1701.kd ((ma_kde Kh1699 (k1655)))
  have k1714 := Xh1701.kd ((ma_kde Kh1699 (k1656)))
  have k1715 := Xh1701.kd ((ma_kde Kh1699 (k1657)))
  have k1716 := Xh1701.kd ((ma_kde Kh1699 (k1658)))
  have k1717 := Xh1701.kd ((ma_kde Kh1699 (k1659)))
  have k1718 := Xh1701.kd ((ma_kde Kh1699 (k1660)))
  have k1719 := Xh1701.kd ((ma_kde Kh1699 (k1661)))
  have k1720 := Xh1701.kd ((ma_kde Kh1699 (k1662)))
  have k1721 := Xh1701.kd ((ma_kde Kh1699 (k1663)))
  have k1722 := Xh1701.kd ((ma_kde Kh1699 (k1664)))
  have k1723 := Xh1701.kd ((ma_kde Kh1699 (k1665)))
  have k1724 := Xh1701.kd ((ma_kde Kh1699 (k1666)))
  have k1725 := Xh1701.kd ((ma_kde Kh1699 (k1667)))
  have k1726 := Xh1701.kd ((ma_kde Kh1699 (k1668)))
  have k1727 := Xh1701.kd ((ma_kde Kh1699 (k1669)))
  have k1728 := Xh1701.kd ((ma_kde Kh1699 (k1670)))
  have k1729 := Xh1701.kd ((ma_kde Kh1699 (k1671)))
  have k1730 := Xh1701.kd ((ma_kde Kh1699 (k1672)))
  have k1731 := Xh1701.kd ((ma_kde Kh1699 (k1673)))
  have k1732 := Xh1701.kd ((ma_kde Kh1699 (k1674)))
  have k1733 := Xh1701.kd ((ma_kde Kh1699 (k1675)))
  have k1734 := Xh1701.kd ((ma_kde Kh1699 (k1676)))
  have k1735 := Xh1701.kd ((ma_kde Kh1699 (k1677)))
  have k1736 := Xh1701.kd ((ma_kde Kh1699 (k1678)))
  have k1737 := Xh1701.kd ((ma_kde Kh1699 (k1679)))
  have k1738 := Xh1701.kd ((ma_kde Kh1699 (k1680)))
  have k1739 := Xh1701.kd ((ma_kde Kh1699 (k1681)))
  have k1740 := Xh1701.kd ((ma_kde Kh1699 (k1682)))
  have k1741 := Xh1701.kd ((ma_kde Kh1699 (k1683)))
  have k1742 := Xh1701.kd ((ma_kde Kh1699 (k1684)))
  have k1743 := Xh1701.kd ((ma_kde Kh1699 (k1685)))
  have k1744 := Xh1701.kd ((ma_kde Kh1699 (k1686)))
  have k1745 := Xh1701.kd ((ma_kde Kh1699 (k1687)))
  have k1746 := Xh1701.kd ((ma_kde Kh1699 (k1688)))
  have k1747 := Xh1701.kd ((ma_kde Kh1699 (k1689)))
  have k1748 := Xh1701.kd ((ma_kde Kh1699 (k1690)))
  have k1749 := Xh1701.kd ((ma_kde Kh1699 (k1691)))
  have k1750 := Xh1701.kd ((ma_kde Kh1699 (k1692)))
  have k1751 := Xh1701.kd ((ma_kde Kh1699 (k1693)))
  have k1752 := Xh1701.kd ((ma_kde Kh1699 (k1694)))
  have k1753 := Xh1701.kd ((ma_kde Kh1699 (k1695)))
  have k1754 := Xh1701.kd ((ma_kde Kh1699 (k1696)))
  have k1755 := Xh1701.kd ((ma_kde Kh1699 (k1697)))
  have k1756 : ah_kd h1701 (ah_sz h1699) = 40 := by rw [eh1701]; exact if_pos rfl
  obtain ⟨k1757, H⟩ := H
  refine mx_putA 8 80 (ref := "PrairiePoolModel") cl_8 (Nat.le_of_ble_eq_true rfl) (Or.inl q1707) (Or.inl rfl) dX8_init_447 (Or.inr ⟨rfl, rfl, rfl, q1707⟩) rfl (Or.inr k1757) k1703 ?_
  refine mx_nmR (ah_ext.wR (Or.inr (Or.inl k1757))) (fun h1758 eh1758 Xh1758 Kh1758 Lh1758 => ?_)
  have H := H h1758 eh1758 Xh1758
  refine mx_aload_n dX8_init_450 rfl rfl ?_
  refine mx_bipush dX8_init_451 ib_20 ?_
  obtain ⟨k1759, H⟩ := H
  refine mx_newa 0 rfl (by decide) q205 dX8_init_453 cn_20 (by decide) k1759.1 k1759.2 (by decide) (fun x_ lv_ => ?_)
  refine mx_nmN x_ lv_ (fun h1760 eh1760 Xh1760 lv_ => ?_)
  have H := H h1760 eh1760 Xh1760 lv_
  have k1761 := Xh1760.kd ((ma_kde Kh1758 (k1702)))
  have k1762 := Xh1760.kd ((ma_kde Kh1758 (k1703)))
  have k1763 := Xh1760.kd ((ma_kde Kh1758 (k1704)))
  have k1764 := Xh1760.kd ((ma_kde Kh1758 (k1705)))
  have k1765 := Xh1760.kd ((ma_kde Kh1758 (k1706)))
  have k1766 := Xh1760.kd ((ma_kde Kh1758 (k1707)))
  have k1767 := Xh1760.kd ((ma_kde Kh1758 (k1708)))
  have k1768 := Xh1760.kd ((ma_kde Kh1758 (k1709)))
  have k1769 := Xh1760.kd ((ma_kde Kh1758 (k1710)))
  have k1770 := Xh1760.kd ((ma_kde Kh1758 (k1711)))
  have k1771 := Xh1760.kd ((ma_kde Kh1758 (k1712)))
  have k1772 := Xh1760.kd ((ma_kde Kh1758 (k1713)))
  have k1773 := Xh1760.kd ((ma_kde Kh1758 (k1714)))
  have k1774 := Xh1760.kd ((ma_kde Kh1758 (k1715)))
  have k1775 := Xh1760.kd ((ma_kde Kh1758 (k1716)))
  have k1776 := Xh1760.kd ((ma_kde Kh1758 (k1717)))
  have k1777 := Xh1760.kd ((ma_kde Kh1758 (k1718)))
  have k1778 := Xh1760.kd ((ma_kde Kh1758 (k1719)))
  have k1779 := Xh1760.kd ((ma_kde Kh1758 (k1720)))
  have k1780 := Xh1760.kd ((ma_kde Kh1758 (k1721)))
  have k1781 := Xh1760.kd ((ma_kde Kh1758 (k1722)))
  have k1782 := Xh1760.kd ((ma_kde Kh1758 (k1723)))
  have k1783 := Xh1760.kd ((ma_kde Kh1758 (k1724)))
  have k1784 := Xh1760.kd ((ma_kde Kh1758 (k1725)))
  have k1785 := Xh1760.kd ((ma_kde Kh1758 (k1726)))
  have k1786 := Xh1760.kd ((ma_kde Kh1758 (k1727)))
  have k1787 := Xh1760.kd ((ma_kde Kh1758 (k1728)))
  have k1788 := Xh1760.kd ((ma_kde Kh1758 (k1729)))
  have k1789 := Xh1760.kd ((ma_kde Kh1758 (k1730)))
  have k1790 := Xh1760.kd ((ma_kde Kh1758 (k1731)))
  have k1791 := Xh1760.kd ((ma_kde Kh1758 (k1732)))
  have k1792 := Xh1760.kd ((ma_kde Kh1758 (k1733)))
  have k1793 := Xh1760.kd ((ma_kde Kh1758 (k1734)))
  have k1794 := Xh1760.kd ((ma_kde Kh1758 (k1735)))
  have k1795 := Xh1760.kd ((ma_kde Kh1758 (k1736)))
  have k1796 := Xh1760.kd ((ma_kde Kh1758 (k1737)))
  have k1797 := Xh1760.kd ((ma_kde Kh1758 (k1738)))
  have k1798 := Xh1760.kd ((ma_kde Kh1758 (k1739)))
  have k1799 := Xh1760.kd ((ma_kde Kh1758 (k1740)))
  have k1800 := Xh1760.kd ((ma_kde Kh1758 (k1741)))
  have k1801 := Xh1760.kd ((ma_kde Kh1758 (k1742)))
  have k1802 := Xh1760.kd ((ma_kde Kh1758 (k1743)))
  have k1803 := Xh1760.kd ((ma_kde Kh1758 (k1744)))
  have k1804 := Xh1760.kd ((ma_kde Kh1758 (k1745)))
  have k1805 := Xh1760.kd ((ma_kde Kh1758 (k1746)))
  have k1806 := Xh1760.kd ((ma_kde Kh1758 (k1747)))
  have k1807 := Xh1760.kd ((ma_kde Kh1758 (k1748)))
  have k1808 := Xh1760.kd ((ma_kde Kh1758 (k1749)))
  have k1809 := Xh1760.kd ((ma_kde Kh1758 (k1750)))
  have k1810 := Xh1760.kd ((ma_kde Kh1758 (k1751)))
  have k1811 := Xh1760.kd ((ma_kde Kh1758 (k1752)))
  have k1812 := Xh1760.kd ((ma_kde Kh1758 (k1753)))
  have k1813 := Xh1760.kd ((ma_kde Kh1758 (k1754)))
  have k1814 := Xh1760.kd ((ma_kde Kh1758 (k1755)))
  have k1815 := Xh1760.kd ((ma_kde Kh1758 (k1756)))
  have k1816 : ah_kd h1760 (ah_sz h1758) = 40 := by rw [eh1760]; exact if_pos rfl
  obtain ⟨k1817, H⟩ := H
  refine mx_putA 8 81 (ref := "PrairiePoolModel") cl_8 (Nat.le_of_ble_eq_true rfl) (Or.inl q1708) (Or.inl rfl) dX8_init_455 (Or.inr ⟨rfl, rfl, rfl, q1708⟩) rfl (Or.inr k1817) k1762 ?_
  refine mx_nmR (ah_ext.wR (Or.inr (Or.inl k1817))) (fun h1818 eh1818 Xh1818 Kh1818 Lh1818 => ?_)
  have H := H h1818 eh1818 Xh1818
  refine mx_aload_n dX8_init_458 rfl rfl ?_
  refine mx_bipush dX8_init_459 ib_60 ?_
  obtain ⟨k1819, H⟩ := H
  refine mx_newa 0 rfl (by decide) q205 dX8_init_461 cn_60 (by decide) k1819.1 k1819.2 (by decide) (fun x_ lv_ => ?_)
  refine mx_nmN x_ lv_ (fun h1820 eh1820 Xh1820 lv_ => ?_)
  have H := H h1820 eh1820 Xh1820 lv_
  have k1821 := Xh1820.kd ((ma_kde Kh1818 (k1761)))
  have k1822 := Xh1820.kd ((ma_kde Kh1818 (k1762)))
  have k1823 := Xh1820.kd ((ma_kde Kh1818 (k1763)))
  have k1824 := Xh1820.kd ((ma_kde Kh1818 (k1764)))
  have k1825 := Xh1820.kd ((ma_kde Kh1818 (k1765)))
  have k1826 := Xh1820.kd ((ma_kde Kh1818 (k1766)))
  have k1827 := Xh1820.kd ((ma_kde Kh1818 (k1767)))
  have k1828 := Xh1820.kd ((ma_kde Kh1818 (k1768)))
  have k1829 := Xh1820.kd ((ma_kde Kh1818 (k1769)))
  have k1830 := Xh1820.kd ((ma_kde Kh1818 (k1770)))
  have k1831 := Xh1820.kd ((ma_kde Kh1818 (k1771)))
  have k1832 := Xh1820.kd ((ma_kde Kh1818 (k1772)))
  have k1833 := Xh1820.kd ((ma_kde Kh1818 (k1773)))
  have k1834 := Xh1820.kd ((ma_kde Kh1818 (k1774)))
  have k1835 := Xh1820.kd ((ma_kde Kh1818 (k1775)))
  have k1836 := Xh1820.kd ((ma_kde Kh1818 (k1776)))
  have k1837 := Xh1820.kd ((ma_kde Kh1818 (k1777)))
  have k1838 := Xh1820.kd ((ma_kde Kh1818 (k1778)))
  have k1839 := Xh1820.kd ((ma_kde Kh1818 (k1779)))
  have k1840 := Xh1820.kd ((ma_kde Kh1818 (k1780)))
  have k1841 := Xh1820.kd ((ma_kde Kh1818 (k1781)))
  have k1842 := Xh1820.kd ((ma_kde Kh1818 (k1782)))
  have k1843 := Xh1820.kd ((ma_kde Kh1818 (k1783)))
  have k1844 := Xh1820.kd ((ma_kde Kh1818 (k1784)))
  have k1845 := Xh1820.kd ((ma_kde Kh1818 (k1785)))
  have k1846 := Xh1820.kd ((ma_kde Kh1818 (k1786)))
  have k1847 := Xh1820.kd ((ma_kde Kh1818 (k1787)))
  have k1848 := Xh1820.kd ((ma_kde Kh1818 (k1788)))
  have k1849 := Xh1820.kd ((ma_kde Kh1818 (k1789)))
  have k1850 := Xh1820.kd ((ma_kde Kh1818 (k1790)))
  have k1851 := Xh1820.kd ((ma_kde Kh1818 (k1791)))
  have k1852 := Xh1820.kd ((ma_kde Kh1818 (k1792)))
  have k1853 := Xh1820.kd ((ma_kde Kh1818 (k1793)))
  have k1854 := Xh1820.kd ((ma_kde Kh1818 (k1794)))
  have k1855 := Xh1820.kd ((ma_kde Kh1818 (k1795)))
  have k1856 := Xh1820.kd ((ma_kde Kh1818 (k1796)))
  have k1857 := Xh1820.kd ((ma_kde Kh1818 (k1797)))
  have k1858 := Xh1820.kd ((ma_kde Kh1818 (k1798)))
  have k1859 := Xh1820.kd ((ma_kde Kh1818 (k1799)))
  have k1860 := Xh1820.kd ((ma_kde Kh1818 (k1800)))
  have k1861 := Xh1820.kd ((ma_kde Kh1818 (k1801)))
  have k1862 := Xh1820.kd ((ma_kde Kh1818 (k1802)))
  have k1863 := Xh1820.kd ((ma_kde Kh1818 (k1803)))
  have k1864 := Xh1820.kd ((ma_kde Kh1818 (k1804)))
  have k1865 := Xh1820.kd ((ma_kde Kh1818 (k1805)))
  have k1866 := Xh1820.kd ((ma_kde Kh1818 (k1806)))
  have k1867 := Xh1820.kd ((ma_kde Kh1818 (k1807)))
  have k1868 := Xh1820.kd ((ma_kde Kh1818 (k1808)))
  have k1869 := Xh1820.kd ((ma_kde Kh1818 (k1809)))
  have k1870 := Xh1820.kd ((ma_kde Kh1818 (k1810)))
  have k1871 := Xh1820.kd ((ma_kde Kh1818 (k1811)))
  have k1872 := Xh1820.kd ((ma_kde Kh1818 (k1812)))
  have k1873 := Xh1820.kd ((ma_kde Kh1818 (k1813)))
  have k1874 := Xh1820.kd ((ma_kde Kh1818 (k1814)))
  have k1875 := Xh1820.kd ((ma_kde Kh1818 (k1815)))
  have k1876 := Xh1820.kd ((ma_kde Kh1818 (k1816)))
  have k1877 : ah_kd h1820 (ah_sz h1818) = 40 := by rw [eh1820]; exact if_pos rfl
  obtain ⟨k1878, H⟩ := H
  refine mx_putA 8 82 (ref := "PrairiePoolModel") cl_8 (Nat.le_of_ble_eq_true rfl) (Or.inl q1709) (Or.inl rfl) dX8_init_463 (Or.inr ⟨rfl, rfl, rfl, q1709⟩) rfl (Or.inr k1878) k1822 ?_
  refine mx_nmR (ah_ext.wR (Or.inr (Or.inl k1878))) (fun h1879 eh1879 Xh1879 Kh1879 Lh1879 => ?_)
  have H := H h1879 eh1879 Xh1879
  refine mx_aload_n dX8_init_466 rfl rfl ?_
  refine mx_bipush dX8_init_467 ib_60 ?_
  obtain ⟨k1880, H⟩ := H
  refine mx_newa 0 rfl (by decide) q205 dX8_init_469 cn_60 (by decide) k1880.1 k1880.2 (by decide) (fun x_ lv_ => ?_)
  refine mx_nmN x_ lv_ (fun h1881 eh1881 Xh1881 lv_ => ?_)
  have H := H h1881 eh1881 Xh1881 lv_
  have k1882 := Xh1881.kd ((ma_kde Kh1879 (k1821)))
  have k1883 := Xh1881.kd ((ma_kde Kh1879 (k1822)))
  have k1884 := Xh1881.kd ((ma_kde Kh1879 (k1823)))
  have k1885 := Xh1881.kd ((ma_kde Kh1879 (k1824)))
  have k1886 := Xh1881.kd ((ma_kde Kh1879 (k1825)))
  have k1887 := Xh1881.kd ((ma_kde Kh1879 (k1826)))
  have k1888 := Xh1881.kd ((ma_kde Kh1879 (k1827)))
  have k1889 := Xh1881.kd ((ma_kde Kh1879 (k1828)))
  have k1890 := Xh1881.kd ((ma_kde Kh1879 (k1829)))
  have k1891 := Xh1881.kd ((ma_kde Kh1879 (k1830)))
  have k1892 := Xh1881.kd ((ma_kde Kh1879 (k1831)))
  have k1893 := Xh1881.kd ((ma_kde Kh1879 (k1832)))
  have k1894 := Xh1881.kd ((ma_kde Kh1879 (k1833)))
  have k1895 := Xh1881.kd ((ma_kde Kh1879 (k1834)))
  have k1896 := Xh1881.kd ((ma_kde Kh1879 (k1835)))
  have k1897 := Xh1881.kd ((ma_kde Kh1879 (k1836)))
  have k1898 := Xh1881.kd ((ma_kde Kh1879 (k1837)))
  have k1899 := Xh1881.kd ((ma_kde Kh1879 (k1838)))
  have k1900 := Xh1881.kd ((ma_kde Kh1879 (k1839)))
  have k1901 := Xh1881.kd ((ma_kde Kh1879 (k1840)))
  have k1902 := Xh1881.kd ((ma_kde Kh1879 (k1841)))
  have k1903 := Xh1881.kd ((ma_kde Kh1879 (k1842)))
  have k1904 := Xh1881.kd ((ma_kde Kh1879 (k1843)))
  have k1905 := Xh1881.kd ((ma_kde Kh1879 (k1844)))
  have k1906 := Xh1881.kd ((ma_kde Kh1879 (k1845)))
  have k1907 := Xh1881.kd ((ma_kde Kh1879 (k1846)))
  have k1908 := Xh1881.kd ((ma_kde Kh1879 (k1847)))
  have k1909 := Xh1881.kd ((ma_kde Kh1879 (k1848)))
  have k1910 := Xh1881.kd ((ma_kde Kh1879 (k1849)))
  have k1911 := Xh1881.kd ((ma_kde Kh1879 (k1850)))
  have k1912 := Xh1881.kd ((ma_kde Kh1879 (k1851)))
  have k1913 := Xh1881.kd ((ma_kde Kh1879 (k1852)))
  have k1914 := Xh1881.kd ((ma_kde Kh1879 (k1853)))
  have k1915 := Xh1881.kd ((ma_kde Kh1879 (k1854)))
  have k1916 := Xh1881.kd ((ma_kde Kh1879 (k1855)))
  have k1917 := Xh1881.kd ((ma_kde Kh1879 (k1856)))
  have k1918 := Xh1881.kd ((ma_kde Kh1879 (k1857)))
  have k1919 := Xh1881.kd ((ma_kde Kh1879 (k1858)))
  have k1920 := Xh1881.kd ((ma_kde Kh1879 (k1859)))
  have k1921 := Xh1881.kd ((ma_kde Kh1879 (k1860)))
  have k1922 := Xh1881.kd ((ma_kde Kh1879 (k1861)))
  have k1923 := Xh1881.kd ((ma_kde Kh1879 (k1862)))
  have k1924 := Xh1881.kd ((ma_kde Kh1879 (k1863)))
  have k1925 := Xh1881.kd ((ma_kde Kh1879 (k1864)))
  have k1926 := Xh1881.kd ((ma_kde Kh1879 (k1865)))
  have k1927 := Xh1881.kd ((ma_kde Kh1879 (k1866)))
  have k1928 := Xh1881.kd ((ma_kde Kh1879 (k1867)))
  have k1929 := Xh1881.kd ((ma_kde Kh1879 (k1868)))
  have k1930 := Xh1881.kd ((ma_kde Kh1879 (k1869)))
  have k1931 := Xh1881.kd ((ma_kde Kh1879 (k1870)))
  have k1932 := Xh1881.kd ((ma_kde Kh1879 (k1871)))
  have k1933 := Xh1881.kd ((ma_kde Kh1879 (k1872)))
  have k1934 := Xh1881.kd ((ma_kde Kh1879 (k1873)))
  have k1935 := Xh1881.kd ((ma_kde Kh1879 (k1874)))
  have k1936 := Xh1881.kd ((ma_kde Kh1879 (k1875)))
  have k1937 := Xh1881.kd ((ma_kde Kh1879 (k1876)))
  have k1938 := Xh1881.kd ((ma_kde Kh1879 (k1877)))
  have k1939 : ah_kd h1881 (ah_sz h1879) = 40 := by rw [eh1881]; exact if_pos rfl
  obtain ⟨k1940, H⟩ := H
  refine mx_putA 8 83 (ref := "PrairiePoolModel") cl_8 (Nat.le_of_ble_eq_true rfl) (Or.inl q1710) (Or.inl rfl) dX8_init_471 (Or.inr ⟨rfl, rfl, rfl, q1710⟩) rfl (Or.inr k1940) k1883 ?_
  refine mx_nmR (ah_ext.wR (Or.inr (Or.inl k1940))) (fun h1941 eh1941 Xh1941 Kh1941 Lh1941 => ?_)
  have H := H h1941 eh1941 Xh1941
  refine mx_aload_n dX8_init_474 rfl rfl ?_
  refine mx_bipush dX8_init_475 ib_60 ?_
  obtain ⟨k1942, H⟩ := H
  refine mx_newa 0 rfl (by decide) q205 dX8_init_477 cn_60 (by decide) k1942.1 k1942.2 (by decide) (fun x_ lv_ => ?_)
  refine mx_nmN x_ lv_ (fun h1943 eh1943 Xh1943 lv_ => ?_)
  have H := H h1943 eh1943 Xh1943 lv_
  have k1944 := Xh1943.kd ((ma_kde Kh1941 (k1882)))
  have k1945 := Xh1943.kd ((ma_kde Kh1941 (k1883)))
  have k1946 := Xh1943.kd ((ma_kde Kh1941 (k1884)))
  have k1947 := Xh1943.kd ((ma_kde Kh1941 (k1885)))
  have k1948 := Xh1943.kd ((ma_kde Kh1941 (k1886)))
  have k1949 := Xh1943.kd ((ma_kde Kh1941 (k1887)))
  have k1950 := Xh1943.kd ((ma_kde Kh1941 (k1888)))
  have k1951 := Xh1943.kd ((ma_kde Kh1941 (k1889)))
  have k1952 := Xh1943.kd ((ma_kde Kh1941 (k1890)))
  have k1953 := Xh1943.kd ((ma_kde Kh1941 (k1891)))
  have k1954 := Xh1943.kd ((ma_kde Kh1941 (k1892)))
  have k1955 := Xh1943.kd ((ma_kde Kh1941 (k1893)))
  have k1956 := Xh1943.kd ((ma_kde Kh1941 (k1894)))
  have k1957 := Xh1943.kd ((ma_kde Kh1941 (k1895)))
  have k1958 := Xh1943.kd ((ma_kde Kh1941 (k1896)))
  have k1959 := Xh1943.kd ((ma_kde Kh1941 (k1897)))
  have k1960 := Xh1943.kd ((ma_kde Kh1941 (k1898)))
  have k1961 := Xh1943.kd ((ma_kde Kh1941 (k1899)))
  have k1962 := Xh1943.kd ((ma_kde Kh1941 (k1900)))
  have k1963 := Xh1943.kd ((ma_kde Kh1941 (k1901)))
  have k1964 := Xh1943.kd ((ma_kde Kh1941 (k1902)))
  have k1965 := Xh1943.kd ((ma_kde Kh1941 (k1903)))
  have k1966 := Xh1943.kd ((ma_kde Kh1941 (k1904)))
  have k1967 := Xh1943.kd ((ma_kde Kh1941 (k1905)))
  have k1968 := Xh1943.kd ((ma_kde Kh1941 (k1906)))
  have k1969 := Xh1943.kd ((ma_kde Kh1941 (k1907)))
  have k1970 := Xh1943.kd ((ma_kde Kh1941 (k1908)))
  have k1971 := Xh1943.kd ((ma_kde Kh1941 (k1909)))
  have k1972 := Xh1943.kd ((ma_kde Kh1941 (k1910)))
  have k1973 := Xh1943.kd ((ma_kde Kh1941 (k1911)))
  have k1974 := Xh1943.kd ((ma_kde Kh1941 (k1912)))
  have k1975 := Xh1943.kd ((ma_kde Kh1941 (k1913)))
  have k1976 := Xh1943.kd ((ma_kde Kh1941 (k1914)))
  have k1977 := Xh1943.kd ((ma_kde Kh1941 (k1915)))
  have k1978 := Xh1943.kd ((ma_kde Kh1941 (k1916)))
  have k1979 := Xh1943.kd ((ma_kde Kh1941 (k1917)))
  have k1980 := Xh1943.kd ((ma_kde Kh1941 (k1918)))
  have k1981 := Xh1943.kd ((ma_kde Kh1941 (k1919)))
  have k1982 := Xh1943.kd ((ma_kde Kh1941 (k1920)))
  have k1983 := Xh1943.kd ((ma_kde Kh1941 (k1921)))
  have k1984 := Xh1943.kd ((ma_kde Kh1941 (k1922)))
  have k1985 := Xh1943.kd ((ma_kde Kh1941 (k1923)))
  have k1986 := Xh1943.kd ((ma_kde Kh1941 (k1924)))
  have k1987 := Xh1943.kd ((ma_kde Kh1941 (k1925)))
  have k1988 := Xh1943.kd ((ma_kde Kh1941 (k1926)))
  have k1989 := Xh1943.kd ((ma_kde Kh1941 (k1927)))
  have k1990 := Xh1943.kd ((ma_kde Kh1941 (k1928)))
  have k1991 := Xh1943.kd ((ma_kde Kh1941 (k1929)))
  have k1992 := Xh1943.kd ((ma_kde Kh1941 (k1930)))
  have k1993 := Xh1943.kd ((ma_kde Kh1941 (k1931)))
  have k1994 := Xh1943.kd ((ma_kde Kh1941 (k1932)))
  have k1995 := Xh1943.kd ((ma_kde Kh1941 (k1933)))
  have k1996 := Xh1943.kd ((ma_kde Kh1941 (k1934)))
  have k1997 := Xh1943.kd ((ma_kde Kh1941 (k1935)))
  have k1998 := Xh1943.kd ((ma_kde Kh1941 (k1936)))
  have k1999 := Xh1943.kd ((ma_kde Kh1941 (k1937)))
  have k2000 := Xh1943.kd ((ma_kde Kh1941 (k1938)))
  have k2001 := Xh1943.kd ((ma_kde Kh1941 (k1939)))
  have k2002 : ah_kd h1943 (ah_sz h1941) = 40 := by rw [eh1943]; exact if_pos rfl
  obtain ⟨k2003, H⟩ := H
  refine mx_putA 8 84 (ref := "PrairiePoolModel") cl_8 (Nat.le_of_ble_eq_true rfl) (Or.inl q1711) (Or.inl rfl) dX8_init_479 (Or.inr ⟨rfl, rfl, rfl, q1711⟩) rfl (Or.inr k2003) k1945 ?_
  refine mx_nmR (ah_ext.wR (Or.inr (Or.inl k2003))) (fun h2004 eh2004 Xh2004 Kh2004 Lh2004 => ?_)
  have H := H h2004 eh2004 Xh2004
  refine mx_aload_n dX8_init_482 rfl rfl ?_
  refine mx_bipush dX8_init_483 ib_60 ?_
  obtain ⟨k2005, H⟩ := H
  refine mx_newa 0 rfl (by decide) q205 dX8_init_485 cn_60 (by decide) k2005.1 k2005.2 (by decide) (fun x_ lv_ => ?_)
  refine mx_nmN x_ lv_ (fun h2006 eh2006 Xh2006 lv_ => ?_)
  have H := H h2006 eh2006 Xh2006 lv_
  have k2007 := Xh2006.kd ((ma_kde Kh2004 (k1944)))
  have k2008 := Xh2006.kd ((ma_kde Kh2004 (k1945)))
  have k2009 := Xh2006.kd ((ma_kde Kh2004 (k1946)))
  have k2010 := Xh2006.kd ((ma_kde Kh2004 (k1947)))
  have k2011 := Xh2006.kd ((ma_kde Kh2004 (k1948)))
  have k2012 := Xh2006.kd ((ma_kde Kh2004 (k1949)))
  have k2013 := Xh2006.kd ((ma_kde Kh2004 (k1950)))
  have k2014 := Xh2006.kd ((ma_kde Kh2004 (k1951)))
  have k2015 := Xh2006.kd ((ma_kde Kh2004 (k1952)))
  have k2016 := Xh2006.kd ((ma_kde Kh2004 (k1953)))
  have k2017 := Xh2006.kd ((ma_kde Kh2004 (k1954)))
  have k2018 := Xh2006.kd ((ma_kde Kh2004 (k1955)))
  have k2019 := Xh2006.kd ((ma_kde Kh2004 (k1956)))
  have k2020 := Xh2006.kd ((ma_kde Kh2004 (k1957)))
  have k2021 := Xh2006.kd ((ma_kde Kh2004 (k1958)))
  have k2022 := Xh2006.kd ((ma_kde Kh2004 (k1959)))
  have k2023 := Xh2006.kd ((ma_kde Kh2004 (k1960)))
  have k2024 := Xh2006.kd ((ma_kde Kh2004 (k1961)))
  have k2025 := Xh2006.kd ((ma_kde Kh2004 (k1962)))
  have k2026 := Xh2006.kd ((ma_kde Kh2004 (k1963)))
  have k2027 := Xh2006.kd ((ma_kde Kh2004 (k1964)))
  have k2028 := Xh2006.kd ((ma_kde Kh2004 (k1965)))
  have k2029 := Xh2006.kd ((ma_kde Kh2004 (k1966)))
  have k2030 := Xh2006.kd ((ma_kde Kh2004 (k1967)))
  have k2031 := Xh2006.kd ((ma_kde Kh2004 (k1968)))
  have k2032 := Xh2006.kd ((ma_kde Kh2004 (k1969)))
  have k2033 := Xh2006.kd ((ma_kde Kh2004 (k1970)))
  have k2034 := Xh2006.kd ((ma_kde Kh2004 (k1971)))
  have k2035 := Xh2006.kd ((ma_kde Kh2004 (k1972)))
  have k2036 := Xh2006.kd ((ma_kde Kh2004 (k1973)))
  have k2037 := Xh2006.kd ((ma_kde Kh2004 (k1974)))
  have k2038 := Xh2006.kd ((ma_kde Kh2004 (k1975)))
  have k2039 := Xh2006.kd ((ma_kde Kh2004 (k1976)))
  have k2040 := Xh2006.kd ((ma_kde Kh2004 (k1977)))
  have k2041 := Xh2006.kd ((ma_kde Kh2004 (k1978)))
  have k2042 := Xh2006.kd ((ma_kde Kh2004 (k1979)))
  have k2043 := Xh2006.kd ((ma_kde Kh2004 (k1980)))
  have k2044 := Xh2006.kd ((ma_kde Kh2004 (k1981)))
  have k2045 := Xh2006.kd ((ma_kde Kh2004 (k1982)))
  have k2046 := Xh2006.kd ((ma_kde Kh2004 (k1983)))
  have k2047 := Xh2006.kd ((ma_kde Kh2004 (k1984)))
  have k2048 := Xh2006.kd ((ma_kde Kh2004 (k1985)))
  have k2049 := Xh2006.kd ((ma_kde Kh2004 (k1986)))
  have k2050 := Xh2006.kd ((ma_kde Kh2004 (k1987)))
  have k2051 := Xh2006.kd ((ma_kde Kh2004 (k1988)))
  have k2052 := Xh2006.kd ((ma_kde Kh2004 (k1989)))
  have k2053 := Xh2006.kd ((ma_kde Kh2004 (k1990)))
  have k2054 := Xh2006.kd ((ma_kde Kh2004 (k1991)))
  have k2055 := Xh2006.kd ((ma_kde Kh2004 (k1992)))
  have k2056 := Xh2006.kd ((ma_kde Kh2004 (k1993)))
  have k2057 := Xh2006.kd ((ma_kde Kh2004 (k1994)))
  have k2058 := Xh2006.kd ((ma_kde Kh2004 (k1995)))
  have k2059 := Xh2006.kd ((ma_kde Kh2004 (k1996)))
  have k2060 := Xh2006.kd ((ma_kde Kh2004 (k1997)))
  have k2061 := Xh2006.kd ((ma_kde Kh2004 (k1998)))
  have k2062 := Xh2006.kd ((ma_kde Kh2004 (k1999)))
  have k2063 := Xh2006.kd ((ma_kde Kh2004 (k2000)))
  have k2064 := Xh2006.kd ((ma_kde Kh2004 (k2001)))
  have k2065 := Xh2006.kd ((ma_kde Kh2004 (k2002)))
  have k2066 : ah_kd h2006 (ah_sz h2004) = 40 := by rw [eh2006]; exact if_pos rfl
  obtain ⟨k2067, H⟩ := H
  refine mx_putA 8 85 (ref := "PrairiePoolModel") cl_8 (Nat.le_of_ble_eq_true rfl) (Or.inl q1712) (Or.inl rfl) dX8_init_487 (Or.inr ⟨rfl, rfl, rfl, q1712⟩) rfl (Or.inr k2067) k2008 ?_
  refine mx_nmR (ah_ext.wR (Or.inr (Or.inl k2067))) (fun h2068 eh2068 Xh2068 Kh2068 Lh2068 => ?_)
  have H := H h2068 eh2068 Xh2068
  refine mx_aload_n dX8_init_490 rfl rfl ?_
  refine mx_sipush dX8_init_491 is_520 ?_
  obtain ⟨k2069, H⟩ := H
  refine mx_newa 0 rfl (by decide) q205 dX8_init_494 cn_520 (by decide) k2069.1 k2069.2 (by decide) (fun x_ lv_ => ?_)
  refine mx_nmN x_ lv_ (fun h2070 eh2070 Xh2070 lv_ => ?_)
  have H := H h2070 eh2070 Xh2070 lv_
  have k2071 := Xh2070.kd ((ma_kde Kh2068 (k2007)))
  have k2072 := Xh2070.kd ((ma_kde Kh2068 (k2008)))
  have k2073 := Xh2070.kd ((ma_kde Kh2068 (k2009)))
  have k2074 := Xh2070.kd ((ma_kde Kh2068 (k2010)))
  have k2075 := Xh2070.kd ((ma_kde Kh2068 (k2011)))
  have k2076 := Xh2070.kd ((ma_kde Kh2068 (k2012)))
  have k2077 := Xh2070.kd ((ma_kde Kh2068 (k2013)))
  have k2078 := Xh2070.kd ((ma_kde Kh2068 (k2014)))
  have k2079 := Xh2070.kd ((ma_kde Kh2068 (k2015)))
  have k2080 := Xh2070.kd ((ma_kde Kh2068 (k2016)))
  have k2081 := Xh2070.kd ((ma_kde Kh2068 (k2017)))
  have k2082 := Xh2070.kd ((ma_kde Kh2068 (k2018)))
  have k2083 := Xh2070.kd ((ma_kde Kh2068 (k2019)))
  have k2084 := Xh2070.kd ((ma_kde Kh2068 (k2020)))
  have k2085 := Xh2070.kd ((ma_kde Kh2068 (k2021)))
  have k2086 := Xh2070.kd ((ma_kde Kh2068 (k2022)))
  have k2087 := Xh2070.kd ((ma_kde Kh2068 (k2023)))
  have k2088 := Xh2070.kd ((ma_kde Kh2068 (k2024)))
  have k2089 := Xh2070.kd ((ma_kde Kh2068 (k2025)))
  have k2090 := Xh2070.kd ((ma_kde Kh2068 (k2026)))
  have k2091 := Xh2070.kd ((ma_kde Kh2068 (k2027)))
  have k2092 := Xh2070.kd ((ma_kde Kh2068 (k2028)))
  have k2093 := Xh2070.kd ((ma_kde Kh2068 (k2029)))
  have k2094 := Xh2070.kd ((ma_kde Kh2068 (k2030)))
  have k2095 := Xh2070.kd ((ma_kde Kh2068 (k2031)))
  have k2096 := Xh2070.kd ((ma_kde Kh2068 (k2032)))
  have k2097 := Xh2070.kd ((ma_kde Kh2068 (k2033)))
  have k2098 := Xh2070.kd ((ma_kde Kh2068 (k2034)))
  have k2099 := Xh2070.kd ((ma_kde Kh2068 (k2035)))
  have k2100 := Xh2070.kd ((ma_kde Kh2068 (k2036)))
  have k2101 := Xh2070.kd ((ma_kde Kh2068 (k2037)))
  have k2102 := Xh2070.kd ((ma_kde Kh2068 (k2038)))
  have k2103 := Xh2070.kd ((ma_kde Kh2068 (k2039)))
  have k2104 := Xh2070.kd ((ma_kde Kh2068 (k2040)))
  have k2105 := Xh2070.kd ((ma_kde Kh2068 (k2041)))
  have k2106 := Xh2070.kd ((ma_kde Kh2068 (k2042)))
  have k2107 := Xh2070.kd ((ma_kde Kh2068 (k2043)))
  have k2108 := Xh2070.kd ((ma_kde Kh2068 (k2044)))
  have k2109 := Xh2070.kd ((ma_kde Kh2068 (k2045)))
  have k2110 := Xh2070.kd ((ma_kde Kh2068 (k2046)))
  have k2111 := Xh2070.kd ((ma_kde Kh2068 (k2047)))
  have k2112 := Xh2070.kd ((ma_kde Kh2068 (k2048)))
  have k2113 := Xh2070.kd ((ma_kde Kh2068 (k2049)))
  have k2114 := Xh2070.kd ((ma_kde Kh2068 (k2050)))
  have k2115 := Xh2070.kd ((ma_kde Kh2068 (k2051)))
  have k2116 := Xh2070.kd ((ma_kde Kh2068 (k2052)))
  have k2117 := Xh2070.kd ((ma_kde Kh2068 (k2053)))
  have k2118 := Xh2070.kd ((ma_kde Kh2068 (k2054)))
  have k2119 := Xh2070.kd ((ma_kde Kh2068 (k2055)))
  have k2120 := Xh2070.kd ((ma_kde Kh2068 (k2056)))
  have k2121 := Xh2070.kd ((ma_kde Kh2068 (k2057)))
  have k2122 := Xh2070.kd ((ma_kde Kh2068 (k2058)))
  have k2123 := Xh2070.kd ((ma_kde Kh2068 (k2059)))
  have k2124 := Xh2070.kd ((ma_kde Kh2068 (k2060)))
  have k2125 := Xh2070.kd ((ma_kde Kh2068 (k2061)))
  have k2126 := Xh2070.kd ((ma_kde Kh2068 (k2062)))
  have k2127 := Xh2070.kd ((ma_kde Kh2068 (k2063)))
  have k2128 := Xh2070.kd ((ma_kde Kh2068 (k2064)))
  have k2129 := Xh2070.kd ((ma_kde Kh2068 (k2065)))
  have k2130 := Xh2070.kd ((ma_kde Kh2068 (k2066)))
  have k2131 : ah_kd h2070 (ah_sz h2068) = 40 := by rw [eh2070]; exact if_pos rfl
  obtain ⟨k2132, H⟩ := H
  refine mx_putA 8 86 (ref := "PrairiePoolModel") cl_8 (Nat.le_of_ble_eq_true rfl) (Or.inl q1713) (Or.inl rfl) dX8_init_496 (Or.inr ⟨rfl, rfl, rfl, q1713⟩) rfl (Or.inr k2132) k2072 ?_
  refine mx_nmR (ah_ext.wR (Or.inr (Or.inl k2132))) (fun h2133 eh2133 Xh2133 Kh2133 Lh2133 => ?_)
  have H := H h2133 eh2133 Xh2133
  refine mx_aload_n dX8_init_499 rfl rfl ?_
  refine mx_sipush dX8_init_500 is_200 ?_
  obtain ⟨k2134, H⟩ := H
  refine mx_newa 4 rfl (by decide) q441 dX8_init_503 cn_200 (by decide) k2134.1 k2134.2 (by decide) (fun x_ lv_ => ?_)
  refine mx_nmN x_ lv_ (fun h2135 eh2135 Xh2135 lv_ => ?_)
  have H := H h2135 eh2135 Xh2135 lv_
  have k2136 := Xh2135.kd ((ma_kde Kh2133 (k2071)))
  have k2137 := Xh2135.kd ((ma_kde Kh2133 (k2072)))
  have k2138 := Xh2135.kd ((ma_kde Kh2133 (k2073)))
  have k2139 := Xh2135.kd ((ma_kde Kh2133 (k2074)))
  have k2140 := Xh2135.kd ((ma_kde Kh2133 (k2075)))
  have k2141 := Xh2135.kd ((ma_kde Kh2133 (k2076)))
  have k2142 := Xh2135.kd ((ma_kde Kh2133 (k2077)))
  have k2143 := Xh2135.kd ((ma_kde Kh2133 (k2078)))
  have k2144 := Xh2135.kd ((ma_kde Kh2133 (k2079)))
  have k2145 := Xh2135.kd ((ma_kde Kh2133 (k2080)))
  have k2146 := Xh2135.kd ((ma_kde Kh2133 (k2081)))
  have k2147 := Xh2135.kd ((ma_kde Kh2133 (k2082)))
  have k2148 := Xh2135.kd ((ma_kde Kh2133 (k2083)))
  have k2149 := Xh2135.kd ((ma_kde Kh2133 (k2084)))
  have k2150 := Xh2135.kd ((ma_kde Kh2133 (k2085)))
  have k2151 := Xh2135.kd ((ma_kde Kh2133 (k2086)))
  have k2152 := Xh2135.kd ((ma_kde Kh2133 (k2087)))
  have k2153 := Xh2135.kd ((ma_kde Kh2133 (k2088)))
  have k2154 := Xh2135.kd ((ma_kde Kh2133 (k2089)))
  have k2155 := Xh2135.kd ((ma_kde Kh2133 (k2090)))
  have k2156 := Xh2135.kd ((ma_kde Kh2133 (k2091)))
  have k2157 := Xh2135.kd ((ma_kde Kh2133 (k2092)))
  have k2158 := Xh2135.kd ((ma_kde Kh2133 (k2093)))
  have k2159 := Xh2135.kd ((ma_kde Kh2133 (k2094)))
  have k2160 := Xh2135.kd ((ma_kde Kh2133 (k2095)))
  have k2161 := Xh2135.kd ((ma_kde Kh2133 (k2096)))
  have k2162 := Xh2135.kd ((ma_kde Kh2133 (k2097)))
  have k2163 := Xh2135.kd ((ma_kde Kh2133 (k2098)))
  have k2164 := Xh2135.kd ((ma_kde Kh2133 (k2099)))
  have k2165 := Xh2135.kd ((ma_kde Kh2133 (k2100)))
  have k2166 := Xh2135.kd ((ma_kde Kh2133 (k2101)))
  have k2167 := Xh2135.kd ((ma_kde Kh2133 (k2102)))
  have k2168 := Xh2135.kd ((ma_kde Kh2133 (k2103)))
  have k2169 := Xh2135.kd ((ma_kde Kh2133 (k2104)))
  have k2170 := Xh2135.kd ((ma_kde Kh2133 (k2105)))
  have k2171 := Xh2135.kd ((ma_kde Kh2133 (k2106)))
  have k2172 := Xh2135.kd ((ma_kde Kh2133 (k2107)))
  have k2173 := Xh2135.kd ((ma_kde Kh2133 (k2108)))
  have k2174 := Xh2135.kd ((ma_kde Kh2133 (k2109)))
  have k2175 := Xh2135.kd ((ma_kde Kh2133 (k2110)))
  have k2176 := Xh2135.kd ((ma_kde Kh2133 (k2111)))
  have k2177 := Xh2135.kd ((ma_kde Kh2133 (k2112)))
  have k2178 := Xh2135.kd ((ma_kde Kh2133 (k2113)))
  have k2179 := Xh2135.kd ((ma_kde Kh2133 (k2114)))
  have k2180 := Xh2135.kd ((ma_kde Kh2133 (k2115)))
  have k2181 := Xh2135.kd ((ma_kde Kh2133 (k2116)))
  have k2182 := Xh2135.kd ((ma_kde Kh2133 (k2117)))
  have k2183 := Xh2135.kd ((ma_kde Kh2133 (k2118)))
  have k2184 := Xh2135.kd ((ma_kde Kh2133 (k2119)))
  have k2185 := Xh2135.kd ((ma_kde Kh2133 (k2120)))
  have k2186 := Xh2135.kd ((ma_kde Kh2133 (k2121)))
  have k2187 := Xh2135.kd ((ma_kde Kh2133 (k2122)))
  have k2188 := Xh2135.kd ((ma_kde Kh2133 (k2123)))
  have k2189 := Xh2135.kd ((ma_kde Kh2133 (k2124)))
  have k2190 := Xh2135.kd ((ma_kde Kh2133 (k2125)))
  have k2191 := Xh2135.kd ((ma_kde Kh2133 (k2126)))
  have k2192 := Xh2135.kd ((ma_kde Kh2133 (k2127)))
  have k2193 := Xh2135.kd ((ma_kde Kh2133 (k2128)))
  have k2194 := Xh2135.kd ((ma_kde Kh2133 (k2129)))
  have k2195 := Xh2135.kd ((ma_kde Kh2133 (k2130)))
  have k2196 := Xh2135.kd ((ma_kde Kh2133 (k2131)))
  have k2197 : ah_kd h2135 (ah_sz h2133) = 44 := by rw [eh2135]; exact if_pos rfl
  obtain ⟨k2198, H⟩ := H
  refine mx_putA 8 87 (ref := "PrairiePoolModel") cl_8 (Nat.le_of_ble_eq_true rfl) (Or.inl q1714) (Or.inl rfl) dX8_init_505 (Or.inr ⟨rfl, rfl, rfl, q1714⟩) rfl (Or.inr k2198) k2137 ?_
  refine mx_nmR (ah_ext.wR (Or.inr (Or.inl k2198))) (fun h2199 eh2199 Xh2199 Kh2199 Lh2199 => ?_)
  have H := H h2199 eh2199 Xh2199
  refine mx_aload_n dX8_init_508 rfl rfl ?_
  refine mx_bipush dX8_init_509 ib_10 ?_
  refine mx_putI 8 89 (ref := "PrairiePoolModel") cl_8 (Nat.le_of_ble_eq_true rfl) (Or.inl q1716) (Or.inl rfl) dX8_init_511 (Or.inl rfl) rfl (ma_kde Kh2199 (k2137)) ?_
  refine mx_nmI  (fun h2200 eh2200 Xh2200 Kh2200 Lh2200 => ?_)
  have H := H h2200 eh2200 Xh2200
  have Kh2200 := Kh2200.trans Kh2199
  have Lh2200 := Lh2200.trans Lh2199
  refine mx_aload_n dX8_init_514 rfl rfl ?_
  refine mx_iconst dX8_init_515 ic_2 ?_
  refine mx_putI 8 90 (ref := "PrairiePoolModel") cl_8 (Nat.le_of_ble_eq_true rfl) (Or.inl q1717) (Or.inl rfl) dX8_init_516 (Or.inl rfl) rfl (ma_kde Kh2200 (k2137)) ?_
  refine mx_nmI  (fun h2201 eh2201 Xh2201 Kh2201 Lh2201 => ?_)
  have H := H h2201 eh2201 Xh2201
  have Kh2201 := Kh2201.trans Kh2200
  have Lh2201 := Lh2201.trans Lh2200
  refine mx_aload_n dX8_init_519 rfl rfl ?_
  refine mx_bipush dX8_init_520 ib_20 ?_
  obtain ⟨k2202, H⟩ := H
  refine mx_newa 0 rfl (by decide) q205 dX8_init_522 cn_20 (by decide) k2202.1 k2202.2 (by decide) (fun x_ lv_ => ?_)
  refine mx_nmN x_ lv_ (fun h2203 eh2203 Xh2203 lv_ => ?_)
  have H := H h2203 eh2203 Xh2203 lv_
  have k2204 := Xh2203.kd ((ma_kde Kh2201 (k2136)))
  have k2205 := Xh2203.kd ((ma_kde Kh2201 (k2137)))
  have k2206 := Xh2203.kd ((ma_kde Kh2201 (k2138)))
  have k2207 := Xh2203.kd ((ma_kde Kh2201 (k2139)))
  have k2208 := Xh2203.kd ((ma_kde Kh2201 (k2140)))
  have k2209 := Xh2203.kd ((ma_kde Kh2201 (k2141)))
  have k2210 := Xh2203.kd ((ma_kde Kh2201 (k2142)))
  have k2211 := Xh2203.kd ((ma_kde Kh2201 (k2143)))
  have k2212 := Xh2203.kd ((ma_kde Kh2201 (k2144)))
  have k2213 := Xh2203.kd ((ma_kde Kh2201 (k2145)))
  have k2214 := Xh2203.kd ((ma_kde Kh2201 (k2146)))
  have k2215 := Xh2203.kd ((ma_kde Kh2201 (k2147)))
  have k2216 := Xh2203.kd ((ma_kde Kh2201 (k2148)))
  have k2217 := Xh2203.kd ((ma_kde Kh2201 (k2149)))
  have k2218 := Xh2203.kd ((ma_kde Kh2201 (k2150)))
  have k2219 := Xh2203.kd ((ma_kde Kh2201 (k2151)))
  have k2220 := Xh2203.kd ((ma_kde Kh2201 (k2152)))
  have k2221 := Xh2203.kd ((ma_kde Kh2201 (k2153)))
  have k2222 := Xh2203.kd ((ma_kde Kh2201 (k2154)))
  have k2223 := Xh2203.kd ((ma_kde Kh2201 (k2155)))
  have k2224 := Xh2203.kd ((ma_kde Kh2201 (k2156)))
  have k2225 := Xh2203.kd ((ma_kde Kh2201 (k2157)))
  have k2226 := Xh2203.kd ((ma_kde Kh2201 (k2158)))
  have k2227 := Xh2203.kd ((ma_kde Kh2201 (k2159)))
  have k2228 := Xh2203.kd ((ma_kde Kh2201 (k2160)))
  have k2229 := Xh2203.kd ((ma_kde Kh2201 (k2161)))
  have k2230 := Xh2203.kd ((ma_kde Kh2201 (k2162)))
  have k2231 := Xh2203.kd ((ma_kde Kh2201 (k2163)))
  have k2232 := Xh2203.kd ((ma_kde Kh2201 (k2164)))
  have k2233 := Xh2203.kd ((ma_kde Kh2201 (k2165)))
  have k2234 := Xh2203.kd ((ma_kde Kh2201 (k2166)))
  have k2235 := Xh2203.kd ((ma_kde Kh2201 (k2167)))
  have k2236 := Xh2203.kd ((ma_kde Kh2201 (k2168)))
  have k2237 := Xh2203.kd ((ma_kde Kh2201 (k2169)))
  have k2238 := Xh2203.kd ((ma_kde Kh2201 (k2170)))
  have k2239 := Xh2203.kd ((ma_kde Kh2201 (k2171)))
  have k2240 := Xh2203.kd ((ma_kde Kh2201 (k2172)))
  have k2241 := Xh2203.kd ((ma_kde Kh2201 (k2173)))
  have k2242 := Xh2203.kd ((ma_kde Kh2201 (k2174)))
  have k2243 := Xh2203.kd ((ma_kde Kh2201 (k2175)))
  have k2244 := Xh2203.kd ((ma_kde Kh2201 (k2176)))
  have k2245 := Xh2203.kd ((ma_kde Kh2201 (k2177)))
  have k2246 := Xh2203.kd ((ma_kde Kh2201 (k2178)))
  have k2247 := Xh2203.kd ((ma_kde Kh2201 (k2179)))
  have k2248 := Xh2203.kd ((ma_kde Kh2201 (k2180)))
  have k2249 := Xh2203.kd ((ma_kde Kh2201 (k2181)))
  have k2250 := Xh2203.kd ((ma_kde Kh2201 (k2182)))
  have k2251 := Xh2203.kd ((ma_kde Kh2201 (k2183)))
  have k2252 := Xh2203.kd ((ma_kde Kh2201 (k2184)))
  have k2253 := Xh2203.kd ((ma_kde Kh2201 (k2185)))
  have k2254 := Xh2203.kd ((ma_kde Kh2201 (k2186)))
  have k2255 := Xh2203.kd ((ma_kde Kh2201 (k2187)))
  have k2256 := Xh2203.kd ((ma_kde Kh2201 (k2188)))
  have k2257 := Xh2203.kd ((ma_kde Kh2201 (k2189)))
  have k2258 := Xh2203.kd ((ma_kde Kh2201 (k2190)))
  have k2259 := Xh2203.kd ((ma_kde Kh2201 (k2191)))
  have k2260 := Xh2203.kd ((ma_kde Kh2201 (k2192)))
  have k2261 := Xh2203.kd ((ma_kde Kh2201 (k2193)))
  have k2262 := Xh2203.kd ((ma_kde Kh2201 (k2194)))
  have k2263 := Xh2203.kd ((ma_kde Kh2201 (k2195)))
  have k2264 := Xh2203.kd ((ma_kde Kh2201 (k2196)))
  have k2265 := Xh2203.kd ((ma_kde Kh2201 (k2197)))
  have k2266 : ah_kd h2203 (ah_sz h2201) = 40 := by rw [eh2203]; exact if_pos rfl
  obtain ⟨k2267, H⟩ := H
  refine mx_putA 8 91 (ref := "PrairiePoolModel") cl_8 (Nat.le_of_ble_eq_true rfl) (Or.inl q1718) (Or.inl rfl) dX8_init_524 (Or.inr ⟨rfl, rfl, rfl, q1718⟩) rfl (Or.inr k2267) k2205 ?_
  refine mx_nmR (ah_ext.wR (Or.inr (Or.inl k2267))) (fun h2268 eh2268 Xh2268 Kh2268 Lh2268 => ?_)
  have H := H h2268 eh2268 Xh2268
  refine mx_aload_n dX8_init_527 rfl rfl ?_
  refine mx_bipush dX8_init_528 ib_6 ?_
  obtain ⟨k2269, H⟩ := H
  refine mx_newa 0 rfl (by decide) q205 dX8_init_530 cn_6 (by decide) k2269.1 k2269.2 (by decide) (fun x_ lv_ => ?_)
  refine mx_nmN x_ lv_ (fun h2270 eh2270 Xh2270 lv_ => ?_)
  have H := H h2270 eh2270 Xh2270 lv_
  have k2271 := Xh2270.kd ((ma_kde Kh2268 (k2204)))
  have k2272 := Xh2270.kd ((ma_kde Kh2268 (k2205)))
  have k2273 := Xh2270.kd ((ma_kde Kh2268 (k2206)))
  have k2274 := Xh2270.kd ((ma_kde Kh2268 (k2207)))
  have k2275 := Xh2270.kd ((ma_kde Kh2268 (k2208)))
  have k2276 := Xh2270.kd ((ma_kde Kh2268 (k2209)))
  have k2277 := Xh2270.kd ((ma_kde Kh2268 (k2210)))
  have k2278 := Xh2270.kd ((ma_kde Kh2268 (k2211)))
  have k2279 := Xh2270.kd ((ma_kde Kh2268 (k2212)))
  have k2280 := Xh2270.kd ((ma_kde Kh2268 (k2213)))
  have k2281 := Xh2270.kd ((ma_kde Kh2268 (k2214)))
  have k2282 := Xh2270.kd ((ma_kde Kh2268 (k2215)))
  have k2283 := Xh2270.kd ((ma_kde Kh2268 (k2216)))
  have k2284 := Xh2270.kd ((ma_kde Kh2268 (k2217)))
  have k2285 := Xh2270.kd ((ma_kde Kh2268 (k2218)))
  have k2286 := Xh2270.kd ((ma_kde Kh2268 (k2219)))
  have k2287 := Xh2270.kd ((ma_kde Kh2268 (k2220)))
  have k2288 := Xh2270.kd ((ma_kde Kh2268 (k2221)))
  have k2289 := Xh2270.kd ((ma_kde Kh2268 (k2222)))
  have k2290 := Xh2270.kd ((ma_kde Kh2268 (k2223)))
  have k2291 := Xh2270.kd ((ma_kde Kh2268 (k2224)))
  have k2292 := Xh2270.kd ((ma_kde Kh2268 (k2225)))
  have k2293 := Xh2270.kd ((ma_kde Kh2268 (k2226)))
  have k2294 := Xh2270.kd ((ma_kde Kh2268 (k2227)))
  have k2295 := Xh2270.kd ((ma_kde Kh2268 (k2228)))
  have k2296 := Xh2270.kd ((ma_kde Kh2268 (k2229)))
  have k2297 := Xh2270.kd ((ma_kde Kh2268 (k2230)))
  have k2298 := Xh2270.kd ((ma_kde Kh2268 (k2231)))
  have k2299 := Xh2270.kd ((ma_kde Kh2268 (k2232)))
  have k2300 := Xh2270.kd ((ma_kde Kh2268 (k2233)))
  have k2301 := Xh2270.kd ((ma_kde Kh2268 (k2234)))
  have k2302 := Xh2270.kd ((ma_kde Kh2268 (k2235)))
  have k2303 := Xh2270.kd ((ma_kde Kh2268 (k2236)))
  have k2304 := Xh2270.kd ((ma_kde Kh2268 (k2237)))
  have k2305 := Xh2270.kd ((ma_kde Kh2268 (k2238)))
  have k2306 := Xh2270.kd ((ma_kde Kh2268 (k2239)))
  have k2307 := Xh2270.kd ((ma_kde Kh2268 (k2240)))
  have k2308 := Xh2270.kd ((ma_kde Kh2268 (k2241)))
  have k2309 := Xh2270.kd ((ma_kde Kh2268 (k2242)))
  have k2310 := Xh2270.kd ((ma_kde Kh2268 (k2243)))
  have k2311 := Xh2270.kd ((ma_kde Kh2268 (k2244)))
  have k2312 := Xh2270.kd ((ma_kde Kh2268 (k2245)))
  have k2313 := Xh2270.kd ((ma_kde Kh2268 (k2246)))
  have k2314 := Xh2270.kd ((ma_kde Kh2268 (k2247)))
  have k2315 := Xh2270.kd ((ma_kde Kh2268 (k2248)))
  have k2316 := Xh2270.kd ((ma_kde Kh2268 (k2249)))
  have k2317 := Xh2270.kd ((ma_kde Kh2268 (k2250)))
  have k2318 := Xh2270.kd ((ma_kde Kh2268 (k2251)))
  have k2319 := Xh2270.kd ((ma_kde Kh2268 (k2252)))
  have k2320 := Xh2270.kd ((ma_kde Kh2268 (k2253)))
  have k2321 := Xh2270.kd ((ma_kde Kh2268 (k2254)))
  have k2322 := Xh2270.kd ((ma_kde Kh2268 (k2255)))
  have k2323 := Xh2270.kd ((ma_kde Kh2268 (k2256)))
  have k2324 := Xh2270.kd ((ma_kde Kh2268 (k2257)))
  have k2325 := Xh2270.kd ((ma_kde Kh2268 (k2258)))
  have k2326 := Xh2270.kd ((ma_kde Kh2268 (k2259)))
  have k2327 := Xh2270.kd ((ma_kde Kh2268 (k2260)))
  have k2328 := Xh2270.kd ((ma_kde Kh2268 (k2261)))
  have k2329 := Xh2270.kd ((ma_kde Kh2268 (k2262)))
  have k2330 := Xh2270.kd ((ma_kde Kh2268 (k2263)))
  have k2331 := Xh2270.kd ((ma_kde Kh2268 (k2264)))
  have k2332 := Xh2270.kd ((ma_kde Kh2268 (k2265)))
  have k2333 := Xh2270.kd ((ma_kde Kh2268 (k2266)))
  have k2334 : ah_kd h2270 (ah_sz h2268) = 40 := by rw [eh2270]; exact if_pos rfl
  obtain ⟨k2335, H⟩ := H
  refine mx_putA 8 92 (ref := "PrairiePoolModel") cl_8 (Nat.le_of_ble_eq_true rfl) (Or.inl q1719) (Or.inl rfl) dX8_init_532 (Or.inr ⟨rfl, rfl, rfl, q1719⟩) rfl (Or.inr k2335) k2272 ?_
  refine mx_nmR (ah_ext.wR (Or.inr (Or.inl k2335))) (fun h2336 eh2336 Xh2336 Kh2336 Lh2336 => ?_)
  have H := H h2336 eh2336 Xh2336
  refine mx_aload_n dX8_init_535 rfl rfl ?_
  refine mx_bipush dX8_init_536 ib_6 ?_
  obtain ⟨k2337, H⟩ := H
  refine mx_newa 1 rfl (by decide) q206 dX8_init_538 cn_6 (by decide) k2337.1 k2337.2 (by decide) (fun x_ lv_ => ?_)
  refine mx_nmN x_ lv_ (fun h2338 eh2338 Xh2338 lv_ => ?_)
  have H := H h2338 eh2338 Xh2338 lv_
  have k2339 := Xh2338.kd ((ma_kde Kh2336 (k2271)))
  have k2340 := Xh2338.kd ((ma_kde Kh2336 (k2272)))
  have k2341 := Xh2338.kd ((ma_kde Kh2336 (k2273)))
  have k2342 := Xh2338.kd ((ma_kde Kh2336 (k2274)))
  have k2343 := Xh2338.kd ((ma_kde Kh2336 (k2275)))
  have k2344 := Xh2338.kd ((ma_kde Kh2336 (k2276)))
  have k2345 := Xh2338.kd ((ma_kde Kh2336 (k2277)))
  have k2346 := Xh2338.kd ((ma_kde Kh2336 (k2278)))
  have k2347 := Xh2338.kd ((ma_kde Kh2336 (k2279)))
  have k2348 := Xh2338.kd ((ma_kde Kh2336 (k2280)))
  have k2349 := Xh2338.kd ((ma_kde Kh2336 (k2281)))
  have k2350 := Xh2338.kd ((ma_kde Kh2336 (k2282)))
  have k2351 := Xh2338.kd ((ma_kde Kh2336 (k2283)))
  have k2352 := Xh2338.kd ((ma_kde Kh2336 (k2284)))
  have k2353 := Xh2338.kd ((ma_kde Kh2336 (k2285)))
  have k2354 := Xh2338.kd ((ma_kde Kh2336 (k2286)))
  have k2355 := Xh2338.kd ((ma_kde Kh2336 (k2287)))
  have k2356 := Xh2338.kd ((ma_kde Kh2336 (k2288)))
  have k2357 := Xh2338.kd ((ma_kde Kh2336 (k2289)))
  have k2358 := Xh2338.kd ((ma_kde Kh2336 (k2290)))
  have k2359 := Xh2338.kd ((ma_kde Kh2336 (k2291)))
  have k2360 := Xh2338.kd ((ma_kde Kh2336 (k2292)))
  have k2361 := Xh2338.kd ((ma_kde Kh2336 (k2293)))
  have k2362 := Xh2338.kd ((ma_kde Kh2336 (k2294)))
  have k2363 := Xh2338.kd ((ma_kde Kh2336 (k2295)))
  have k2364 := Xh2338.kd ((ma_kde Kh2336 (k2296)))
  have k2365 := Xh2338.kd ((ma_kde Kh2336 (k2297)))
  have k2366 := Xh2338.kd ((ma_kde Kh2336 (k2298)))
  have k2367 := Xh2338.kd ((ma_kde Kh2336 (k2299)))
  have k2368 := Xh2338.kd ((ma_kde Kh2336 (k2300)))
  have k2369 := Xh2338.kd ((ma_kde Kh2336 (k2301)))
  have k2370 := Xh2338.kd ((ma_kde Kh2336 (k2302)))
  have k2371 := Xh2338.kd ((ma_kde Kh2336 (k2303)))
  have k2372 := Xh2338.kd ((ma_kde Kh2336 (k2304)))
  have k2373 := Xh2338.kd ((ma_kde Kh2336 (k2305)))
  have k2374 := Xh2338.kd ((ma_kde Kh2336 (k2306)))
  have k2375 := Xh2338.kd ((ma_kde Kh2336 (k2307)))
  have k2376 := Xh2338.kd ((ma_kde Kh2336 (k2308)))
  have k2377 := Xh2338.kd ((ma_kde Kh2336 (k2309)))
  have k2378 := Xh2338.kd ((ma_kde Kh2336 (k2310)))
  have k2379 := Xh2338.kd ((ma_kde Kh2336 (k2311)))
  have k2380 := Xh2338.kd ((ma_kde Kh2336 (k2312)))
  have k2381 := Xh2338.kd ((ma_kde Kh2336 (k2313)))
  have k2382 := Xh2338.kd ((ma_kde Kh2336 (k2314)))
  have k2383 := Xh2338.kd ((ma_kde Kh2336 (k2315)))
  have k2384 := Xh2338.kd ((ma_kde Kh2336 (k2316)))
  have k2385 := Xh2338.kd ((ma_kde Kh2336 (k2317)))
  have k2386 := Xh2338.kd ((ma_kde Kh2336 (k2318)))
  have k2387 := Xh2338.kd ((ma_kde Kh2336 (k2319)))
  have k2388 := Xh2338.kd ((ma_kde Kh2336 (k2320)))
  have k2389 := Xh2338.kd ((ma_kde Kh2336 (k2321)))
  have k2390 := Xh2338.kd ((ma_kde Kh2336 (k2322)))
  have k2391 := Xh2338.kd ((ma_kde Kh2336 (k2323)))
  have k2392 := Xh2338.kd ((ma_kde Kh2336 (k2324)))
  have k2393 := Xh2338.kd ((ma_kde Kh2336 (k2325)))
  have k2394 := Xh2338.kd ((ma_kde Kh2336 (k2326)))
  have k2395 := Xh2338.kd ((ma_kde Kh2336 (k2327)))
  have k2396 := Xh2338.kd ((ma_kde Kh2336 (k2328)))
  have k2397 := Xh2338.kd ((ma_kde Kh2336 (k2329)))
  have k2398 := Xh2338.kd ((ma_kde Kh2336 (k2330)))
  have k2399 := Xh2338.kd ((ma_kde Kh2336 (k2331)))
  have k2400 := Xh2338.kd ((ma_kde Kh2336 (k2332)))
  have k2401 := Xh2338.kd ((ma_kde Kh2336 (k2333)))
  have k2402 := Xh2338.kd ((ma_kde Kh2336 (k2334)))
  have k2403 : ah_kd h2338 (ah_sz h2336) = 41 := by rw [eh2338]; exact if_pos rfl
  obtain ⟨k2404, H⟩ := H
  refine mx_putA 8 93 (ref := "PrairiePoolModel") cl_8 (Nat.le_of_ble_eq_true rfl) (Or.inl q1720) (Or.inl rfl) dX8_init_540 (Or.inr ⟨rfl, rfl, rfl, q1720⟩) rfl (Or.inr k2404) k2340 ?_
  refine mx_nmR (ah_ext.wR (Or.inr (Or.inl k2404))) (fun h2405 eh2405 Xh2405 Kh2405 Lh2405 => ?_)
  have H := H h2405 eh2405 Xh2405
  refine mx_aload_n dX8_init_543 rfl rfl ?_
  refine mx_bipush dX8_init_544 ib_6 ?_
  obtain ⟨k2406, H⟩ := H
  refine mx_newa 1 rfl (by decide) q206 dX8_init_546 cn_6 (by decide) k2406.1 k2406.2 (by decide) (fun x_ lv_ => ?_)
  refine mx_nmN x_ lv_ (fun h2407 eh2407 Xh2407 lv_ => ?_)
  have H := H h2407 eh2407 Xh2407 lv_
  have k2408 := Xh2407.kd ((ma_kde Kh2405 (k2339)))
  have k2409 := Xh2407.kd ((ma_kde Kh2405 (k2340)))
  have k2410 := Xh2407.kd ((ma_kde Kh2405 (k2341)))
  have k2411 := Xh2407.kd ((ma_kde Kh2405 (k2342)))
  have k2412 := Xh2407.kd ((ma_kde Kh2405 (k2343)))
  have k2413 := Xh2407.kd ((ma_kde Kh2405 (k2344)))
  have k2414 := Xh2407.kd ((ma_kde Kh2405 (k2345)))
  have k2415 := Xh2407.kd ((ma_kde Kh2405 (k2346)))
  have k2416 := Xh2407.kd ((ma_kde Kh2405 (k2347)))
  have k2417 := Xh2407.kd ((ma_kde Kh2405 (k2348)))
  have k2418 := Xh2407.kd ((ma_kde Kh2405 (k2349)))
  have k2419 := Xh2407.kd ((ma_kde Kh2405 (k2350)))
  have k2420 := Xh2407.kd ((ma_kde Kh2405 (k2351)))
  have k2421 := Xh2407.kd ((ma_kde Kh2405 (k2352)))
  have k2422 := Xh2407.kd ((ma_kde Kh2405 (k2353)))
  have k2423 := Xh2407.kd ((ma_kde Kh2405 (k2354)))
  have k2424 := Xh2407.kd ((ma_kde Kh2405 (k2355)))
  have k2425 := Xh2407.kd ((ma_kde Kh2405 (k2356)))
  have k2426 := Xh2407.kd ((ma_kde Kh2405 (k2357)))
  have k2427 := Xh2407.kd ((ma_kde Kh2405 (k2358)))
  have k2428 := Xh2407.kd ((ma_kde Kh2405 (k2359)))
  have k2429 := Xh2407.kd ((ma_kde Kh2405 (k2360)))
  have k2430 := Xh2407.kd ((ma_kde Kh2405 (k2361)))
  have k2431 := Xh2407.kd ((ma_kde Kh2405 (k2362)))
  have k2432 := Xh2407.kd ((ma_kde Kh2405 (k2363)))
  have k2433 := Xh2407.kd ((ma_kde Kh2405 (k2364)))
  have k2434 := Xh2407.kd ((ma_kde Kh2405 (k2365)))
  have k2435 := Xh2407.kd ((ma_kde Kh2405 (k2366)))
  have k2436 := Xh2407.kd ((ma_kde Kh2405 (k2367)))
  have k2437 := Xh2407.kd ((ma_kde Kh2405 (k2368)))
  have k2438 := Xh2407.kd ((ma_kde Kh2405 (k2369)))
  have k2439 := Xh2407.kd ((ma_kde Kh2405 (k2370)))
  have k2440 := Xh2407.kd ((ma_kde Kh2405 (k2371)))
  have k2441 := Xh2407.kd ((ma_kde Kh2405 (k2372)))
  have k2442 := Xh2407.kd ((ma_kde Kh2405 (k2373)))
  have k2443 := Xh2407.kd ((ma_kde Kh2405 (k2374)))
  have k2444 := Xh2407.kd ((ma_kde Kh2405 (k2375)))
  have k2445 := Xh2407.kd ((ma_kde Kh2405 (k2376)))
  have k2446 := Xh2407.kd ((ma_kde Kh2405 (k2377)))
  have k2447 := Xh2407.kd ((ma_kde Kh2405 (k2378)))
  have k2448 := Xh2407.kd ((ma_kde Kh2405 (k2379)))
  have k2449 := Xh2407.kd ((ma_kde Kh2405 (k2380)))
  have k2450 := Xh2407.kd ((ma_kde Kh2405 (k2381)))
  have k2451 := Xh2407.kd ((ma_kde Kh2405 (k2382)))
  have k2452 := Xh2407.kd ((ma_kde Kh2405 (k2383)))
  have k2453 := Xh2407.kd ((ma_kde Kh2405 (k2384)))
  have k2454 := Xh2407.kd ((ma_kde Kh2405 (k2385)))
  have k2455 := Xh2407.kd ((ma_kde Kh2405 (k2386)))
  have k2456 := Xh2407.kd ((ma_kde Kh2405 (k2387)))
  have k2457 := Xh2407.kd ((ma_kde Kh2405 (k2388)))
  have k2458 := Xh2407.kd ((ma_kde Kh2405 (k2389)))
  have k2459 := Xh2407.kd ((ma_kde Kh2405 (k2390)))
  have k2460 := Xh2407.kd ((ma_kde Kh2405 (k2391)))
  have k2461 := Xh2407.kd ((ma_kde Kh2405 (k2392)))
  have k2462 := Xh2407.kd ((ma_kde Kh2405 (k2393)))
  have k2463 := Xh2407.kd ((ma_kde Kh2405 (k2394)))
  have k2464 := Xh2407.kd ((ma_kde Kh2405 (k2395)))
  have k2465 := Xh2407.kd ((ma_kde Kh2405 (k2396)))
  have k2466 := Xh2407.kd ((ma_kde Kh2405 (k2397)))
  have k2467 := Xh2407.kd ((ma_kde Kh2405 (k2398)))
  have k2468 := Xh2407.kd ((ma_kde Kh2405 (k2399)))
  have k2469 := Xh2407.kd ((ma_kde Kh2405 (k2400)))
  have k2470 := Xh2407.kd ((ma_kde Kh2405 (k2401)))
  have k2471 := Xh2407.kd ((ma_kde Kh2405 (k2402)))
  have k2472 := Xh2407.kd ((ma_kde Kh2405 (k2403)))
  have k2473 : ah_kd h2407 (ah_sz h2405) = 41 := by rw [eh2407]; exact if_pos rfl
  obtain ⟨k2474, H⟩ := H
  refine mx_putA 8 94 (ref := "PrairiePoolModel") cl_8 (Nat.le_of_ble_eq_true rfl) (Or.inl q1721) (Or.inl rfl) dX8_init_548 (Or.inr ⟨rfl, rfl, rfl, q1721⟩) rfl (Or.inr k2474) k2409 ?_
  refine mx_nmR (ah_ext.wR (Or.inr (Or.inl k2474))) (fun h2475 eh2475 Xh2475 Kh2475 Lh2475 => ?_)
  have H := H h2475 eh2475 Xh2475
  refine mx_aload_n dX8_init_551 rfl rfl ?_
  refine mx_bipush dX8_init_552 ib_20 ?_
  obtain ⟨k2476, H⟩ := H
  refine mx_newa 1 rfl (by decide) q206 dX8_init_554 cn_20 (by decide) k2476.1 k2476.2 (by decide) (fun x_ lv_ => ?_)
  refine mx_nmN x_ lv_ (fun h2477 eh2477 Xh2477 lv_ => ?_)
  have H := H h2477 eh2477 Xh2477 lv_
  have k2478 := Xh2477.kd ((ma_kde Kh2475 (k2408)))
  have k2479 := Xh2477.kd ((ma_kde Kh2475 (k2409)))
  have k2480 := Xh2477.kd ((ma_kde Kh2475 (k2410)))
  have k2481 := Xh2477.kd ((ma_kde Kh2475 (k2411)))
  have k2482 := Xh2477.kd ((ma_kde Kh2475 (k2412)))
  have k2483 := Xh2477.kd ((ma_kde Kh2475 (k2413)))
  have k2484 := Xh2477.kd ((ma_kde Kh2475 (k2414)))
  have k2485 := Xh2477.kd ((ma_kde Kh2475 (k2415)))
  have k2486 := Xh2477.kd ((ma_kde Kh2475 (k2416)))
  have k2487 := Xh2477.kd ((ma_kde Kh2475 (k2417)))
  have k2488 := Xh2477.kd ((ma_kde Kh2475 (k2418)))
  have k2489 := Xh2477.kd ((ma_kde Kh2475 (k2419)))
  have k2490 := Xh2477.kd ((ma_kde Kh2475 (k2420)))
  have k2491 := Xh2477.kd ((ma_kde Kh2475 (k2421)))
  have k2492 := Xh2477.kd ((ma_kde Kh2475 (k2422)))
  have k2493 := Xh2477.kd ((ma_kde Kh2475 (k2423)))
  have k2494 := Xh2477.kd ((ma_kde Kh2475 (k2424)))
  have k2495 := Xh2477.kd ((ma_kde Kh2475 (k2425)))
  have k2496 := Xh2477.kd ((ma_kde Kh2475 (k2426)))
  have k2497 := Xh2477.kd ((ma_kde Kh2475 (k2427)))
  have k2498 := Xh2477.kd ((ma_kde Kh2475 (k2428)))
  have k2499 := Xh2477.kd ((ma_kde Kh2475 (k2429)))
  have k2500 := Xh2477.kd ((ma_kde Kh2475 (k2430)))
  have k2501 := Xh2477.kd ((ma_kde Kh2475 (k2431)))
  have k2502 := Xh2477.kd ((ma_kde Kh2475 (k2432)))
  have k2503 := Xh2477.kd ((ma_kde Kh2475 (k2433)))
  have k2504 := Xh2477.kd ((ma_kde Kh2475 (k2434)))
  have k2505 := Xh2477.kd ((ma_kde Kh2475 (k2435)))
  have k2506 := Xh2477.kd ((ma_kde Kh2475 (k2436)))
  have k2507 := Xh2477.kd ((ma_kde Kh2475 (k2437)))
  have k2508 := Xh2477.kd ((ma_kde Kh2475 (k2438)))
  have k2509 := Xh2477.kd ((ma_kde Kh2475 (k2439)))
  have k2510 := Xh2477.kd ((ma_kde Kh2475 (k2440)))
  have k2511 := Xh2477.kd ((ma_kde Kh2475 (k2441)))
  have k2512 := Xh2477.kd ((ma_kde Kh2475 (k2442)))
  have k2513 := Xh2477.kd ((ma_kde Kh2475 (k2443)))
  have k2514 := Xh2477.kd ((ma_kde Kh2475 (k2444)))
  have k2515 := Xh2477.kd ((ma_kde Kh2475 (k2445)))
  have k2516 := Xh2477.kd ((ma_kde Kh2475 (k2446)))
  have k2517 := Xh2477.kd ((ma_kde Kh2475 (k2447)))
  have k2518 := Xh2477.kd ((ma_kde Kh2475 (k2448)))
  have k2519 := Xh2477.kd ((ma_kde Kh2475 (k2449)))
  have k2520 := Xh2477.kd ((ma_kde Kh2475 (k2450)))
  have k2521 := Xh2477.kd ((ma_kde Kh2475 (k2451)))
  have k2522 := Xh2477.kd ((ma_kde Kh2475 (k2452)))
  have k2523 := Xh2477.kd ((ma_kde Kh2475 (k2453)))
  have k2524 := Xh2477.kd ((ma_kde Kh2475 (k2454)))
  have k2525 := Xh2477.kd ((ma_kde Kh2475 (k2455)))
  have k2526 := Xh2477.kd ((ma_kde Kh2475 (k2456)))
  have k2527 := Xh2477.kd ((ma_kde Kh2475 (k2457)))
  have k2528 := Xh2477.kd ((ma_kde Kh2475 (k2458)))
  have k2529 := Xh2477.kd ((ma_kde Kh2475 (k2459)))
  have k2530 := Xh2477.kd ((ma_kde Kh2475 (k2460)))
  have k2531 := Xh2477.kd ((ma_kde Kh2475 (k2461)))
  have k2532 := Xh2477.kd ((ma_kde Kh2475 (k2462)))
  have k2533 := Xh2477.kd ((ma_kde Kh2475 (k2463)))
  have k2534 := Xh2477.kd ((ma_kde Kh2475 (k2464)))
  have k2535 := Xh2477.kd ((ma_kde Kh2475 (k2465)))
  have k2536 := Xh2477.kd ((ma_kde Kh2475 (k2466)))
  have k2537 := Xh2477.kd ((ma_kde Kh2475 (k2467)))
  have k2538 := Xh2477.kd ((ma_kde Kh2475 (k2468)))
  have k2539 := Xh2477.kd ((ma_kde Kh2475 (k2469)))
  have k2540 := Xh2477.kd ((ma_kde Kh2475 (k2470)))
  have k2541 := Xh2477.kd ((ma_kde Kh2475 (k2471)))
  have k2542 := Xh2477.kd ((ma_kde Kh2475 (k2472)))
  have k2543 := Xh2477.kd ((ma_kde Kh2475 (k2473)))
  have k2544 : ah_kd h2477 (ah_sz h2475) = 41 := by rw [eh2477]; exact if_pos rfl
  obtain ⟨k2545, H⟩ := H
  refine mx_putA 8 95 (ref := "PrairiePoolModel") cl_8 (Nat.le_of_ble_eq_true rfl) (Or.inl q1722) (Or.inl rfl) dX8_init_556 (Or.inr ⟨rfl, rfl, rfl, q1722⟩) rfl (Or.inr k2545) k2479 ?_
  refine mx_nmR (ah_ext.wR (Or.inr (Or.inl k2545))) (fun h2546 eh2546 Xh2546 Kh2546 Lh2546 => ?_)
  have H := H h2546 eh2546 Xh2546
  refine mx_aload_n dX8_init_559 rfl rfl ?_
  refine mx_bipush dX8_init_560 ib_8 ?_
  obtain ⟨k2547, H⟩ := H
  refine mx_newa 0 rfl (by decide) q205 dX8_init_562 cn_8 (by decide) k2547.1 k2547.2 (by decide) (fun x_ lv_ => ?_)
  refine mx_nmN x_ lv_ (fun h2548 eh2548 Xh2548 lv_ => ?_)
  have H := H h2548 eh2548 Xh2548 lv_
  have k2549 := Xh2548.kd ((ma_kde Kh2546 (k2478)))
  have k2550 := Xh2548.kd ((ma_kde Kh2546 (k2479)))
  have k2551 := Xh2548.kd ((ma_kde Kh2546 (k2480)))
  have k2552 := Xh2548.kd ((ma_kde Kh2546 (k2481)))
  have k2553 := Xh2548.kd ((ma_kde Kh2546 (k2482)))
  have k2554 := Xh2548.kd ((ma_kde Kh2546 (k2483)))
  have k2555 := Xh2548.kd ((ma_kde Kh2546 (k2484)))
  have k2556 := Xh2548.kd ((ma_kde Kh2546 (k2485)))
  have k2557 := Xh2548.kd ((ma_kde Kh2546 (k2486)))
  have k2558 := Xh2548.kd ((ma_kde Kh2546 (k2487)))
  have k2559 := Xh2548.kd ((ma_kde Kh2546 (k2488)))
  have k2560 := Xh2548.kd ((ma_kde Kh2546 (k2489)))
  have k2561 := Xh2548.kd ((ma_kde Kh2546 (k2490)))
  have k2562 := Xh2548.kd ((ma_kde Kh2546 (k2491)))
  have k2563 := Xh2548.kd ((ma_kde Kh2546 (k2492)))
  have k2564 := Xh2548.kd ((ma_kde Kh2546 (k2493)))
  have k2565 := Xh2548.kd ((ma_kde Kh2546 (k2494)))
  have k2566 := Xh2548.kd ((ma_kde Kh2546 (k2495)))
  have k2567 := Xh2548.kd ((ma_kde Kh2546 (k2496)))
  have k2568 := Xh2548.kd ((ma_kde Kh2546 (k2497)))
  have k2569 := Xh2548.kd ((ma_kde Kh2546 (k2498)))
  have k2570 := Xh2548.kd ((ma_kde Kh2546 (k2499)))
  have k2571 := Xh2548.kd ((ma_kde Kh2546 (k2500)))
  have k2572 := Xh2548.kd ((ma_kde Kh2546 (k2501)))
  have k2573 := Xh2548.kd ((ma_kde Kh2546 (k2502)))
  have k2574 := Xh2548.kd ((ma_kde Kh2546 (k2503)))
  have k2575 := Xh2548.kd ((ma_kde Kh2546 (k2504)))
  have k2576 := Xh2548.kd ((ma_kde Kh2546 (k2505)))
  have k2577 := Xh2548.kd ((ma_kde Kh2546 (k2506)))
  have k2578 := Xh2548.kd ((ma_kde Kh2546 (k2507)))
  have k2579 := Xh2548.kd ((ma_kde Kh2546 (k2508)))
  have k2580 := Xh2548.kd ((ma_kde Kh2546 (k2509)))
  have k2581 := Xh2548.kd ((ma_kde Kh2546 (k2510)))
  have k2582 := Xh2548.kd ((ma_kde Kh2546 (k2511)))
  have k2583 := Xh2548.kd ((ma_kde Kh2546 (k2512)))
  have k2584 := Xh2548.kd ((ma_kde Kh2546 (k2513)))
  have k2585 := Xh2548.kd ((ma_kde Kh2546 (k2514)))
  have k2586 := Xh2548.kd ((ma_kde Kh2546 (k2515)))
  have k2587 := Xh2548.kd ((ma_kde Kh2546 (k2516)))
  have k2588 := Xh2548.kd ((ma_kde Kh2546 (k2517)))
  have k2589 := Xh2548.kd ((ma_kde Kh2546 (k2518)))
  have k2590 := Xh2548.kd ((ma_kde Kh2546 (k2519)))
  have k2591 := Xh2548.kd ((ma_kde Kh2546 (k2520)))
  have k2592 := Xh2548.kd ((ma_kde Kh2546 (k2521)))
  have k2593 := Xh2548.kd ((ma_kde Kh2546 (k2522)))
  have k2594 := Xh2548.kd ((ma_kde Kh2546 (k2523)))
  have k2595 := Xh2548.kd ((ma_kde Kh2546 (k2524)))
  have k2596 := Xh2548.kd ((ma_kde Kh2546 (k2525)))
  have k2597 := Xh2548.kd ((ma_kde Kh2546 (k2526)))
  have k2598 := Xh2548.kd ((ma_kde Kh2546 (k2527)))
  have k2599 := Xh2548.kd ((ma_kde Kh2546 (k2528)))
  have k2600 := Xh2548.kd ((ma_kde Kh2546 (k2529)))
  have k2601 := Xh2548.kd ((ma_kde Kh2546 (k2530)))
  have k2602 := Xh2548.kd ((ma_kde Kh2546 (k2531)))
  have k2603 := Xh2548.kd ((ma_kde Kh2546 (k2532)))
  have k2604 := Xh2548.kd ((ma_kde Kh2546 (k2533)))
  have k2605 := Xh2548.kd ((ma_kde Kh2546 (k2534)))
  have k2606 := Xh2548.kd ((ma_kde Kh2546 (k2535)))
  have k2607 := Xh2548.kd ((ma_kde Kh2546 (k2536)))
  have k2608 := Xh2548.kd ((ma_kde Kh2546 (k2537)))
  have k2609 := Xh2548.kd ((ma_kde Kh2546 (k2538)))
  have k2610 := Xh2548.kd ((ma_kde Kh2546 (k2539)))
  have k2611 := Xh2548.kd ((ma_kde Kh2546 (k2540)))
  have k2612 := Xh2548.kd ((ma_kde Kh2546 (k2541)))
  have k2613 := Xh2548.kd ((ma_kde Kh2546 (k2542)))
  have k2614 := Xh2548.kd ((ma_kde Kh2546 (k2543)))
  have k2615 := Xh2548.kd ((ma_kde Kh2546 (k2544)))
  have k2616 : ah_kd h2548 (ah_sz h2546) = 40 := by rw [eh2548]; exact if_pos rfl
  obtain ⟨k2617, H⟩ := H
  refine mx_putA 8 96 (ref := "PrairiePoolModel") cl_8 (Nat.le_of_ble_eq_true rfl) (Or.inl q1723) (Or.inl rfl) dX8_init_564 (Or.inr ⟨rfl, rfl, rfl, q1723⟩) rfl (Or.inr k2617) k2550 ?_
  refine mx_nmR (ah_ext.wR (Or.inr (Or.inl k2617))) (fun h2618 eh2618 Xh2618 Kh2618 Lh2618 => ?_)
  have H := H h2618 eh2618 Xh2618
  refine mx_aload_n dX8_init_567 rfl rfl ?_
  refine mx_bipush dX8_init_568 ib_8 ?_
  obtain ⟨k2619, H⟩ := H
  refine mx_newa 0 rfl (by decide) q205 dX8_init_570 cn_8 (by decide) k2619.1 k2619.2 (by decide) (fun x_ lv_ => ?_)
  refine mx_nmN x_ lv_ (fun h2620 eh2620 Xh2620 lv_ => ?_)
  have H := H h2620 eh2620 Xh2620 lv_
  have k2621 := Xh2620.kd ((ma_kde Kh2618 (k2549)))
  have k2622 := Xh2620.kd ((ma_kde Kh2618 (k2550)))
  have k2623 := Xh2620.kd ((ma_kde Kh2618 (k2551)))
  have k2624 := Xh2620.kd ((ma_kde Kh2618 (k2552)))
  have k2625 := Xh2620.kd ((ma_kde Kh2618 (k2553)))
  have k2626 := Xh2620.kd ((ma_kde Kh2618 (k2554)))
  have k2627 := Xh2620.kd ((ma_kde Kh2618 (k2555)))
  have k2628 := Xh2620.kd ((ma_kde Kh2618 (k2556)))
  have k2629 := Xh2620.kd ((ma_kde Kh2618 (k2557)))
  have k2630 := Xh2620.kd ((ma_kde Kh2618 (k2558)))
  have k2631 := Xh2620.kd ((ma_kde Kh2618 (k2559)))
  have k2632 := Xh2620.kd ((ma_kde Kh2618 (k2560)))
  have k2633 := Xh2620.kd ((ma_kde Kh2618 (k2561)))
  have k2634 := Xh2620.kd ((ma_kde Kh2618 (k2562)))
  have k2635 := Xh2620.kd ((ma_kde Kh2618 (k2563)))
  have k2636 := Xh2620.kd ((ma_kde Kh2618 (k2564)))
  have k2637 := Xh2620.kd ((ma_kde Kh2618 (k2565)))
  have k2638 := Xh2620.kd ((ma_kde Kh2618 (k2566)))
  have k2639 := Xh2620.kd ((ma_kde Kh2618 (k2567)))
  have k2640 := Xh2620.kd ((ma_kde Kh2618 (k2568)))
  have k2641 := Xh2620.kd ((ma_kde Kh2618 (k2569)))
  have k2642 := Xh2620.kd ((ma_kde Kh2618 (k2570)))
  have k2643 := Xh2620.kd ((ma_kde Kh2618 (k2571)))
  have k2644 := Xh2620.kd ((ma_kde Kh2618 (k2572)))
  have k2645 := Xh2620.kd ((ma_kde Kh2618 (k2573)))
  have k2646 := Xh2620.kd ((ma_kde Kh2618 (k2574)))
  have k2647 := Xh2620.kd ((ma_kde Kh2618 (k2575)))
  have k2648 := Xh2620.kd ((ma_kde Kh2618 (k2576)))
  have k2649 := Xh2620.kd ((ma_kde Kh2618 (k2577)))
  have k2650 := Xh2620.kd ((ma_kde Kh2618 (k2578)))
  have k2651 := Xh2620.kd ((ma_kde Kh2618 (k2579)))
  have k2652 := Xh2620.kd ((ma_kde Kh2618 (k2580)))
  have k2653 := Xh2620.kd ((ma_kde Kh2618 (k2581)))
  have k2654 := Xh2620.kd ((ma_kde Kh2618 (k2582)))
  have k2655 := Xh2620.kd ((ma_kde Kh2618 (k2583)))
  have k2656 := Xh2620.kd ((ma_kde Kh2618 (k2584)))
  have k2657 := Xh2620.kd ((ma_kde Kh2618 (k2585)))
  have k2658 := Xh2620.kd ((ma_kde Kh2618 (k2586)))
  have k2659 := Xh2620.kd ((ma_kde Kh2618 (k2587)))
  have k2660 := Xh2620.kd ((ma_kde Kh2618 (k2588)))
  have k2661 := Xh2620.kd ((ma_kde Kh2618 (k2589)))
  have k2662 := Xh2620.kd ((ma_kde Kh2618 (k2590)))
  have k2663 := Xh2620.kd ((ma_kde Kh2618 (k2591)))
  have k2664 := Xh2620.kd ((ma_kde Kh2618 (k2592)))
  have k2665 := Xh2620.kd ((ma_kde Kh2618 (k2593)))
  have k2666 := Xh2620.kd ((ma_kde Kh2618 (k2594)))
  have k2667 := Xh2620.kd ((ma_kde Kh2618 (k2595)))
  have k2668 := Xh2620.kd ((ma_kde Kh2618 (k2596)))
  have k2669 := Xh2620.kd ((ma_kde Kh2618 (k2597)))
  have k2670 := Xh2620.kd ((ma_kde Kh2618 (k2598)))
  have k2671 := Xh2620.kd ((ma_kde Kh2618 (k2599)))
  have k2672 := Xh2620.kd ((ma_kde Kh2618 (k2600)))
  have k2673 := Xh2620.kd ((ma_kde Kh2618 (k2601)))
  have k2674 := Xh2620.kd ((ma_kde Kh2618 (k2602)))
  have k2675 := Xh2620.kd ((ma_kde Kh2618 (k2603)))
  have k2676 := Xh2620.kd ((ma_kde Kh2618 (k2604)))
  have k2677 := Xh2620.kd ((ma_kde Kh2618 (k2605)))
  have k2678 := Xh2620.kd ((ma_kde Kh2618 (k2606)))
  have k2679 := Xh2620.kd ((ma_kde Kh2618 (k2607)))
  have k2680 := Xh2620.kd ((ma_kde Kh2618 (k2608)))
  have k2681 := Xh2620.kd ((ma_kde Kh2618 (k2609)))
  have k2682 := Xh2620.kd ((ma_kde Kh2618 (k2610)))
  have k2683 := Xh2620.kd ((ma_kde Kh2618 (k2611)))
  have k2684 := Xh2620.kd ((ma_kde Kh2618 (k2612)))
  have k2685 := Xh2620.kd ((ma_kde Kh2618 (k2613)))
  have k2686 := Xh2620.kd ((ma_kde Kh2618 (k2614)))
  have k2687 := Xh2620.kd ((ma_kde Kh2618 (k2615)))
  have k2688 := Xh2620.kd ((ma_kde Kh2618 (k2616)))
  have k2689 : ah_kd h2620 (ah_sz h2618) = 40 := by rw [eh2620]; exact if_pos rfl
  obtain ⟨k2690, H⟩ := H
  refine mx_putA 8 97 (ref := "PrairiePoolModel") cl_8 (Nat.le_of_ble_eq_true rfl) (Or.inl q1724) (Or.inl rfl) dX8_init_572 (Or.inr ⟨rfl, rfl, rfl, q1724⟩) rfl (Or.inr k2690) k2622 ?_
  refine mx_nmR (ah_ext.wR (Or.inr (Or.inl k2690))) (fun h2691 eh2691 Xh2691 Kh2691 Lh2691 => ?_)
  have H := H h2691 eh2691 Xh2691
  refine mx_aload_n dX8_init_575 rfl rfl ?_
  refine mx_bipush dX8_init_576 ib_20 ?_
  obtain ⟨k2692, H⟩ := H
  refine mx_newa 0 rfl (by decide) q205 dX8_init_578 cn_20 (by decide) k2692.1 k2692.2 (by decide) (fun x_ lv_ => ?_)
  refine mx_nmN x_ lv_ (fun h2693 eh2693 Xh2693 lv_ => ?_)
  have H := H h2693 eh2693 Xh2693 lv_
  have k2694 := Xh2693.kd ((ma_kde Kh2691 (k2621)))
  have k2695 := Xh2693.kd ((ma_kde Kh2691 (k2622)))
  have k2696 := Xh2693.kd ((ma_kde Kh2691 (k2623)))
  have k2697 := Xh2693.kd ((ma_kde Kh2691 (k2624)))
  have k2698 := Xh2693.kd ((ma_kde Kh2691 (k2625)))
  have k2699 := Xh2693.kd ((ma_kde Kh2691 (k2626)))
  have k2700 := Xh2693.kd ((ma_kde Kh2691 (k2627)))
  have k2701 := Xh2693.kd ((ma_kde Kh2691 (k2628)))
  have k2702 := Xh2693.kd ((ma_kde Kh2691 (k2629)))
  have k2703 := Xh2693.kd ((ma_kde Kh2691 (k2630)))
  have k2704 := Xh2693.kd ((ma_kde Kh2691 (k2631)))
  have k2705 := Xh2693.kd ((ma_kde Kh2691 (k2632)))
  have k2706 := Xh2693.kd ((ma_kde Kh2691 (k2633)))
  have k2707 := Xh2693.kd ((ma_kde Kh2691 (k2634)))
  have k2708 := Xh2693.kd ((ma_kde Kh2691 (k2635)))
  have k2709 := Xh2693.kd ((ma_kde Kh2691 (k2636)))
  have k2710 := Xh2693.kd ((ma_kde Kh2691 (k2637)))
  have k2711 := Xh2693.kd ((ma_kde Kh2691 (k2638)))
  have k2712 := Xh2693.kd ((ma_kde Kh2691 (k2639)))
  have k2713 := Xh2693.kd ((ma_kde Kh2691 (k2640)))
  have k2714 := Xh2693.kd ((ma_kde Kh2691 (k2641)))
  have k2715 := Xh2693.kd ((ma_kde Kh2691 (k2642)))
  have k2716 := Xh2693.kd ((ma_kde Kh2691 (k2643)))
  have k2717 := Xh2693.kd ((ma_kde Kh2691 (k2644)))
  have k2718 := Xh2693.kd ((ma_kde Kh2691 (k2645)))
  have k2719 := Xh2693.kd ((ma_kde Kh2691 (k2646)))
  have k2720 := Xh2693.kd ((ma_kde Kh2691 (k2647)))
  have k2721 := Xh2693.kd ((ma_kde Kh2691 (k2648)))
  have k2722 := Xh2693.kd ((ma_kde Kh2691 (k2649)))
  have k2723 := Xh2693.kd ((ma_kde Kh2691 (k2650)))
  have k2724 := Xh2693.kd ((ma_kde Kh2691 (k2651)))
  have k2725 := Xh2693.kd ((ma_kde Kh2691 (k2652)))
  have k2726 := Xh2693.kd ((ma_kde Kh2691 (k2653)))
  have k2727 := Xh2693.kd ((ma_kde Kh2691 (k2654)))
  have k2728 := Xh2693.kd ((ma_kde Kh2691 (k2655)))
  have k2729 := Xh2693.kd ((ma_kde Kh2691 (k2656)))
  have k2730 := Xh2693.kd ((ma_kde Kh2691 (k2657)))
  have k2731 := Xh2693.kd ((ma_kde Kh2691 (k2658)))
  have k2732 := Xh2693.kd ((ma_kde Kh2691 (k2659)))
  have k2733 := Xh2693.kd ((ma_kde Kh2691 (k2660)))
  have k2734 := Xh2693.kd ((ma_kde Kh2691 (k2661)))
  have k2735 := Xh2693.kd ((ma_kde Kh2691 (k2662)))
  have k2736 := Xh2693.kd ((ma_kde Kh2691 (k2663)))
  have k2737 := Xh2693.kd ((ma_kde Kh2691 (k2664)))
  have k2738 := Xh2693.kd ((ma_kde Kh2691 (k2665)))
  have k2739 := Xh2693.kd ((ma_kde Kh2691 (k2666)))
  have k2740 := Xh2693.kd ((ma_kde Kh2691 (k2667)))
  have k2741 := Xh2693.kd ((ma_kde Kh2691 (k2668)))
  have k2742 := Xh2693.kd ((ma_kde Kh2691 (k2669)))
  have k2743 := Xh2693.kd ((ma_kde Kh2691 (k2670)))
  have k2744 := Xh2693.kd ((ma_kde Kh2691 (k2671)))
  have k2745 := Xh2693.kd ((ma_kde Kh2691 (k2672)))
  have k2746 := Xh2693.kd ((ma_kde Kh2691 (k2673)))
  have k2747 := Xh2693.kd ((ma_kde Kh2691 (k2674)))
  have k2748 := Xh2693.kd ((ma_kde Kh2691 (k2675)))
  have k2749 := Xh2693.kd ((ma_kde Kh2691 (k2676)))
  have k2750 := Xh2693.kd ((ma_kde Kh2691 (k2677)))
  have k2751 := Xh2693.kd ((ma_kde Kh2691 (k2678)))
  have k2752 := Xh2693.kd ((ma_kde Kh2691 (k2679)))
  have k2753 := Xh2693.kd ((ma_kde Kh2691 (k2680)))
  have k2754 := Xh2693.kd ((ma_kde Kh2691 (k2681)))
  have k2755 := Xh2693.kd ((ma_kde Kh2691 (k2682)))
  have k2756 := Xh2693.kd ((ma_kde Kh2691 (k2683)))
  have k2757 := Xh2693.kd ((ma_kde Kh2691 (k2684)))
  have k2758 := Xh2693.kd ((ma_kde Kh2691 (k2685)))
  have k2759 := Xh2693.kd ((ma_kde Kh2691 (k2686)))
  have k2760 := Xh2693.kd ((ma_kde Kh2691 (k2687)))
  have k2761 := Xh2693.kd ((ma_kde Kh2691 (k2688)))
  have k2762 := Xh2693.kd ((ma_kde Kh2691 (k2689)))
  have k2763 : ah_kd h2693 (ah_sz h2691) = 40 := by rw [eh2693]; exact if_pos rfl
  obtain ⟨k2764, H⟩ := H
  refine mx_putA 8 98 (ref := "PrairiePoolModel") cl_8 (Nat.le_of_ble_eq_true rfl) (Or.inl q1725) (Or.inl rfl) dX8_init_580 (Or.inr ⟨rfl, rfl, rfl, q1725⟩) rfl (Or.inr k2764) k2695 ?_
  refine mx_nmR (ah_ext.wR (Or.inr (Or.inl k2764))) (fun h2765 eh2765 Xh2765 Kh2765 Lh2765 => ?_)
  have H := H h2765 eh2765 Xh2765
  refine mx_aload_n dX8_init_583 rfl rfl ?_
  refine mx_sipush dX8_init_584 is_5376 ?_
  obtain ⟨k2766, H⟩ := H
  refine mx_newa 0 rfl (by decide) q205 dX8_init_587 cn_5376 (by decide) k2766.1 k2766.2 (by decide) (fun x_ lv_ => ?_)
  refine mx_nmN x_ lv_ (fun h2767 eh2767 Xh2767 lv_ => ?_)
  have H := H h2767 eh2767 Xh2767 lv_
  have k2768 := Xh2767.kd ((ma_kde Kh2765 (k2694)))
  have k2769 := Xh2767.kd ((ma_kde Kh2765 (k2695)))
  have k2770 := Xh2767.kd ((ma_kde Kh2765 (k2696)))
  have k2771 := Xh2767.kd ((ma_kde Kh2765 (k2697)))
  have k2772 := Xh2767.kd ((ma_kde Kh2765 (k2698)))
  have k2773 := Xh2767.kd ((ma_kde Kh2765 (k2699)))
  have k2774 := Xh2767.kd ((ma_kde Kh2765 (k2700)))
  have k2775 := Xh2767.kd ((ma_kde Kh2765 (k2701)))
  have k2776 := Xh2767.kd ((ma_kde Kh2765 (k2702)))
  have k2777 := Xh2767.kd ((ma_kde Kh2765 (k2703)))
  have k2778 := Xh2767.kd ((ma_kde Kh2765 (k2704)))
  have k2779 := Xh2767.kd ((ma_kde Kh2765 (k2705)))
  have k2780 := Xh2767.kd ((ma_kde Kh2765 (k2706)))
  have k2781 := Xh2767.kd ((ma_kde Kh2765 (k2707)))
  have k2782 := Xh2767.kd ((ma_kde Kh2765 (k2708)))
  have k2783 := Xh2767.kd ((ma_kde Kh2765 (k2709)))
  have k2784 := Xh2767.kd ((ma_kde Kh2765 (k2710)))
  have k2785 := Xh2767.kd ((ma_kde Kh2765 (k2711)))
  have k2786 := Xh2767.kd ((ma_kde Kh2765 (k2712)))
  have k2787 := Xh2767.kd ((ma_kde Kh2765 (k2713)))
  have k2788 := Xh2767.kd ((ma_kde Kh2765 (k2714)))
  have k2789 := Xh2767.kd ((ma_kde Kh2765 (k2715)))
  have k2790 := Xh2767.kd ((ma_kde Kh2765 (k2716)))
  have k2791 := Xh2767.kd ((ma_kde Kh2765 (k2717)))
  have k2792 := Xh2767.kd ((ma_kde Kh2765 (k2718)))
  have k2793 := Xh2767.kd ((ma_kde Kh2765 (k2719)))
  have k2794 := Xh2767.kd ((ma_kde Kh2765 (k2720)))
  have k2795 := Xh2767.kd ((ma_kde Kh2765 (k2721)))
  have k2796 := Xh2767.kd ((ma_kde Kh2765 (k2722)))
  have k2797 := Xh2767.kd ((ma_kde Kh2765 (k2723)))
  have k2798 := Xh2767.kd ((ma_kde Kh2765 (k2724)))
  have k2799 := Xh2767.kd ((ma_kde Kh2765 (k2725)))
  have k2800 := Xh2767.kd ((ma_kde Kh2765 (k2726)))
  have k2801 := Xh2767.kd ((ma_kde Kh2765 (k2727)))
  have k2802 := Xh2767.kd ((ma_kde Kh2765 (k2728)))
  have k2803 := Xh2767.kd ((ma_kde Kh2765 (k2729)))
  have k2804 := Xh2767.kd ((ma_kde Kh2765 (k2730)))
  have k2805 := Xh2767.kd ((ma_kde Kh2765 (k2731)))
  have k2806 := Xh2767.kd ((ma_kde Kh2765 (k2732)))
  have k2807 := Xh2767.kd ((ma_kde Kh2765 (k2733)))
  have k2808 := Xh2767.kd ((ma_kde Kh2765 (k2734)))
  have k2809 := Xh2767.kd ((ma_kde Kh2765 (k2735)))
  have k2810 := Xh2767.kd ((ma_kde Kh2765 (k2736)))
  have k2811 := Xh2767.kd ((ma_kde Kh2765 (k2737)))
  have k2812 := Xh2767.kd ((ma_kde Kh2765 (k2738)))
  have k2813 := Xh2767.kd ((ma_kde Kh2765 (k2739)))
  have k2814 := Xh2767.kd ((ma_kde Kh2765 (k2740)))
  have k2815 := Xh2767.kd ((ma_kde Kh2765 (k2741)))
  have k2816 := Xh2767.kd ((ma_kde Kh2765 (k2742)))
  have k2817 := Xh2767.kd ((ma_kde Kh2765 (k2743)))
  have k2818 := Xh2767.kd ((ma_kde Kh2765 (k2744)))
  have k2819 := Xh2767.kd ((ma_kde Kh2765 (k2745)))
  have k2820 := Xh2767.kd ((ma_kde Kh2765 (k2746)))
  have k2821 := Xh2767.kd ((ma_kde Kh2765 (k2747)))
  have k2822 := Xh2767.kd ((ma_kde Kh2765 (k2748)))
  have k2823 := Xh2767.kd ((ma_kde Kh2765 (k2749)))
  have k2824 := Xh2767.kd ((ma_kde Kh2765 (k2750)))
  have k2825 := Xh2767.kd ((ma_kde Kh2765 (k2751)))
  have k2826 := Xh2767.kd ((ma_kde Kh2765 (k2752)))
  have k2827 := Xh2767.kd ((ma_kde Kh2765 (k2753)))
  have k2828 := Xh2767.kd ((ma_kde Kh2765 (k2754)))
  have k2829 := Xh2767.kd ((ma_kde Kh2765 (k2755)))
  have k2830 := Xh2767.kd ((ma_kde Kh2765 (k2756)))
  have k2831 := Xh2767.kd ((ma_kde Kh2765 (k2757)))
  have k2832 := Xh2767.kd ((ma_kde Kh2765 (k2758)))
  have k2833 := Xh2767.kd ((ma_kde Kh2765 (k2759)))
  have k2834 := Xh2767.kd ((ma_kde Kh2765 (k2760)))
  have k2835 := Xh2767.kd ((ma_kde Kh2765 (k2761)))
  have k2836 := Xh2767.kd ((ma_kde Kh2765 (k2762)))
  have k2837 := Xh2767.kd ((ma_kde Kh2765 (k2763)))
  have k2838 : ah_kd h2767 (ah_sz h2765) = 40 := by rw [eh2767]; exact if_pos rfl
  obtain ⟨k2839, H⟩ := H
  refine mx_putA 8 99 (ref := "PrairiePoolModel") cl_8 (Nat.le_of_ble_eq_true rfl) (Or.inl q1726) (Or.inl rfl) dX8_init_589 (Or.inr ⟨rfl, rfl, rfl, q1726⟩) rfl (Or.inr k2839) k2769 ?_
  refine mx_nmR (ah_ext.wR (Or.inr (Or.inl k2839))) (fun h2840 eh2840 Xh2840 Kh2840 Lh2840 => ?_)
  have H := H h2840 eh2840 Xh2840
  refine mx_aload_n dX8_init_592 rfl rfl ?_
  refine mx_iconst dX8_init_593 ic_5 ?_
  obtain ⟨k2841, H⟩ := H
  refine mx_newa 0 rfl (by decide) q205 dX8_init_594 cn_5 (by decide) k2841.1 k2841.2 (by decide) (fun x_ lv_ => ?_)
  refine mx_nmN x_ lv_ (fun h2842 eh2842 Xh2842 lv_ => ?_)
  have H := H h2842 eh2842 Xh2842 lv_
  have k2843 := Xh2842.kd ((ma_kde Kh2840 (k2768)))
  have k2844 := Xh2842.kd ((ma_kde Kh2840 (k2769)))
  have k2845 := Xh2842.kd ((ma_kde Kh2840 (k2770)))
  have k2846 := Xh2842.kd ((ma_kde Kh2840 (k2771)))
  have k2847 := Xh2842.kd ((ma_kde Kh2840 (k2772)))
  have k2848 := Xh2842.kd ((ma_kde Kh2840 (k2773)))
  have k2849 := Xh2842.kd ((ma_kde Kh2840 (k2774)))
  have k2850 := Xh2842.kd ((ma_kde Kh2840 (k2775)))
  have k2851 := Xh2842.kd ((ma_kde Kh2840 (k2776)))
  have k2852 := Xh2842.kd ((ma_kde Kh2840 (k2777)))
  have k2853 := Xh2842.kd ((ma_kde Kh2840 (k2778)))
  have k2854 := Xh2842.kd ((ma_kde Kh2840 (k2779)))
  have k2855 := Xh2842.kd ((ma_kde Kh2840 (k2780)))
  have k2856 := Xh2842.kd ((ma_kde Kh2840 (k2781)))
  have k2857 := Xh2842.kd ((ma_kde Kh2840 (k2782)))
  have k2858 := Xh2842.kd ((ma_kde Kh2840 (k2783)))
  have k2859 := Xh2842.kd ((ma_kde Kh2840 (k2784)))
  have k2860 := Xh2842.kd ((ma_kde Kh2840 (k2785)))
  have k2861 := Xh2842.kd ((ma_kde Kh2840 (k2786)))
  have k2862 := Xh2842.kd ((ma_kde Kh2840 (k2787)))
  have k2863 := Xh2842.kd ((ma_kde Kh2840 (k2788)))
  have k2864 := Xh2842.kd ((ma_kde Kh2840 (k2789)))
  have k2865 := Xh2842.kd ((ma_kde Kh2840 (k2790)))
  have k2866 := Xh2842.kd ((ma_kde Kh2840 (k2791)))
  have k2867 := Xh2842.kd ((ma_kde Kh2840 (k2792)))
  have k2868 := Xh2842.kd ((ma_kde Kh2840 (k2793)))
  have k2869 := Xh2842.kd ((ma_kde Kh2840 (k2794)))
  have k2870 := Xh2842.kd ((ma_kde Kh2840 (k2795)))
  have k2871 := Xh2842.kd ((ma_kde Kh2840 (k2796)))
  have k2872 := Xh2842.kd ((ma_kde Kh2840 (k2797)))
  have k2873 := Xh2842.kd ((ma_kde Kh2840 (k2798)))
  have k2874 := Xh2842.kd ((ma_kde Kh2840 (k2799)))
  have k2875 := Xh2842.kd ((ma_kde Kh2840 (k2800)))
  have k2876 := Xh2842.kd ((ma_kde Kh2840 (k2801)))
  have k2877 := Xh2842.kd ((ma_kde Kh2840 (k2802)))
  have k2878 := Xh2842.kd ((ma_kde Kh2840 (k2803)))
  have k2879 := Xh2842.kd ((ma_kde Kh2840 (k2804)))
  have k2880 := Xh2842.kd ((ma_kde Kh2840 (k2805)))
  have k2881 := Xh2842.kd ((ma_kde Kh2840 (k2806)))
  have k2882 := Xh2842.kd ((ma_kde Kh2840 (k2807)))
  have k2883 := Xh2842.kd ((ma_kde Kh2840 (k2808)))
  have k2884 := Xh2842.kd ((ma_kde Kh2840 (k2809)))
  have k2885 := Xh2842.kd ((ma_kde Kh2840 (k2810)))
  have k2886 := Xh2842.kd ((ma_kde Kh2840 (k2811)))
  have k2887 := Xh2842.kd ((ma_kde Kh2840 (k2812)))
  have k2888 := Xh2842.kd ((ma_kde Kh2840 (k2813)))
  have k2889 := Xh2842.kd ((ma_kde Kh2840 (k2814)))
  have k2890 := Xh2842.kd ((ma_kde Kh2840 (k2815)))
  have k2891 := Xh2842.kd ((ma_kde Kh2840 (k2816)))
  have k2892 := Xh2842.kd ((ma_kde Kh2840 (k2817)))
  have k2893 := Xh2842.kd ((ma_kde Kh2840 (k2818)))
  have k2894 := Xh2842.kd ((ma_kde Kh2840 (k2819)))
  have k2895 := Xh2842.kd ((ma_kde Kh2840 (k2820)))
  have k2896 := Xh2842.kd ((ma_kde Kh2840 (k2821)))
  have k2897 := Xh2842.kd ((ma_kde Kh2840 (k2822)))
  have k2898 := Xh2842.kd ((ma_kde Kh2840 (k2823)))
  have k2899 := Xh2842.kd ((ma_kde Kh2840 (k2824)))
  have k2900 := Xh2842.kd ((ma_kde Kh2840 (k2825)))
  have k2901 := Xh2842.kd ((ma_kde Kh2840 (k2826)))
  have k2902 := Xh2842.kd ((ma_kde Kh2840 (k2827)))
  have k2903 := Xh2842.kd ((ma_kde Kh2840 (k2828)))
  have k2904 := Xh2842.kd ((ma_kde Kh2840 (k2829)))
  have k2905 := Xh2842.kd ((ma_kde Kh2840 (k2830)))
  have k2906 := Xh2842.kd ((ma_kde Kh2840 (k2831)))
  have k2907 := Xh2842.kd ((ma_kde Kh2840 (k2832)))
  have k2908 := Xh2842.kd ((ma_kde Kh2840 (k2833)))
  have k2909 := Xh2842.kd ((ma_kde Kh2840 (k2834)))
  have k2910 := Xh2842.kd ((ma_kde Kh2840 (k2835)))
  have k2911 := Xh2842.kd ((ma_kde Kh2840 (k2836)))
  have k2912 := Xh2842.kd ((ma_kde Kh2840 (k2837)))
  have k2913 := Xh2842.kd ((ma_kde Kh2840 (k2838)))
  have k2914 : ah_kd h2842 (ah_sz h2840) = 40 := by rw [eh2842]; exact if_pos rfl
  obtain ⟨k2915, H⟩ := H
  refine mx_putA 8 100 (ref := "PrairiePoolModel") cl_8 (Nat.le_of_ble_eq_true rfl) (Or.inl q1727) (Or.inl rfl) dX8_init_596 (Or.inr ⟨rfl, rfl, rfl, q1727⟩) rfl (Or.inr k2915) k2844 ?_
  refine mx_nmR (ah_ext.wR (Or.inr (Or.inl k2915))) (fun h2916 eh2916 Xh2916 Kh2916 Lh2916 => ?_)
  have H := H h2916 eh2916 Xh2916
  refine mx_aload_n dX8_init_599 rfl rfl ?_
  refine mx_iconst dX8_init_600 ic_4 ?_
  obtain ⟨k2917, H⟩ := H
  refine mx_newa 0 rfl (by decide) q205 dX8_init_601 cn_4 (by decide) k2917.1 k2917.2 (by decide) (fun x_ lv_ => ?_)
  refine mx_nmN x_ lv_ (fun h2918 eh2918 Xh2918 lv_ => ?_)
  have H := H h2918 eh2918 Xh2918 lv_
  have k2919 := Xh2918.kd ((ma_kde Kh2916 (k2843)))
  have k2920 := Xh2918.kd ((ma_kde Kh2916 (k2844)))
  have k2921 := Xh2918.kd ((ma_kde Kh2916 (k2845)))
  have k2922 := Xh2918.kd ((ma_kde Kh2916 (k2846)))
  have k2923 := Xh2918.kd ((ma_kde Kh2916 (k2847)))
  have k2924 := Xh2918.kd ((ma_kde Kh2916 (k2848)))
  have k2925 := Xh2918.kd ((ma_kde Kh2916 (k2849)))
  have k2926 := Xh2918.kd ((ma_kde Kh2916 (k2850)))
  have k2927 := Xh2918.kd ((ma_kde Kh2916 (k2851)))
  have k2928 := Xh2918.kd ((ma_kde Kh2916 (k2852)))
  have k2929 := Xh2918.kd ((ma_kde Kh2916 (k2853)))
  have k2930 := Xh2918.kd ((ma_kde Kh2916 (k2854)))
  have k2931 := Xh2918.kd ((ma_kde Kh2916 (k2855)))
  have k2932 := Xh2918.kd ((ma_kde Kh2916 (k2856)))
  have k2933 := Xh2918.kd ((ma_kde Kh2916 (k2857)))
  have k2934 := Xh2918.kd ((ma_kde Kh2916 (k2858)))
  have k2935 := Xh2918.kd ((ma_kde Kh2916 (k2859)))
  have k2936 := Xh2918.kd ((ma_kde Kh2916 (k2860)))
  have k2937 := Xh2918.kd ((ma_kde Kh2916 (k2861)))
  have k2938 := Xh2918.kd ((ma_kde Kh2916 (k2862)))
  have k2939 := Xh2918.kd ((ma_kde Kh2916 (k2863)))
  have k2940 := Xh2918.kd ((ma_kde Kh2916 (k2864)))
  have k2941 := Xh2918.kd ((ma_kde Kh2916 (k2865)))
  have k2942 := Xh2918.kd ((ma_kde Kh2916 (k2866)))
  have k2943 := Xh2918.kd ((ma_kde Kh2916 (k2867)))
  have k2944 := Xh2918.kd ((ma_kde Kh2916 (k2868)))
  have k2945 := Xh2918.kd ((ma_kde Kh2916 (k2869)))
  have k2946 := Xh2918.kd ((ma_kde Kh2916 (k2870)))
  have k2947 := Xh2918.kd ((ma_kde Kh2916 (k2871)))
  have k2948 := Xh2918.kd ((ma_kde Kh2916 (k2872)))
  have k2949 := Xh2918.kd ((ma_kde Kh2916 (k2873)))
  have k2950 := Xh2918.kd ((ma_kde Kh2916 (k2874)))
  have k2951 := Xh2918.kd ((ma_kde Kh2916 (k2875)))
  have k2952 := Xh2918.kd ((ma_kde Kh2916 (k2876)))
  have k2953 := Xh2918.kd ((ma_kde Kh2916 (k2877)))
  have k2954 := Xh2918.kd ((ma_kde Kh2916 (k2878)))
  have k2955 := Xh2918.kd ((ma_kde Kh2916 (k2879)))
  have k2956 := Xh2918.kd ((ma_kde Kh2916 (k2880)))
  have k2957 := Xh2918.kd ((ma_kde Kh2916 (k2881)))
  have k2958 := Xh2918.kd ((ma_kde Kh2916 (k2882)))
  have k2959 := Xh2918.kd ((ma_kde Kh2916 (k2883)))
  have k2960 := Xh2918.kd ((ma_kde Kh2916 (k2884)))
  have k2961 := Xh2918.kd ((ma_kde Kh2916 (k2885)))
  have k2962 := Xh2918.kd ((ma_kde Kh2916 (k2886)))
  have k2963 := Xh2918.kd ((ma_kde Kh2916 (k2887)))
  have k2964 := Xh2918.kd ((ma_kde Kh2916 (k2888)))
  have k2965 := Xh2918.kd ((ma_kde Kh2916 (k2889)))
  have k2966 := Xh2918.kd ((ma_kde Kh2916 (k2890)))
  have k2967 := Xh2918.kd ((ma_kde Kh2916 (k2891)))
  have k2968 := Xh2918.kd ((ma_kde Kh2916 (k2892)))
  have k2969 := Xh2918.kd ((ma_kde Kh2916 (k2893)))
  have k2970 := Xh2918.kd ((ma_kde Kh2916 (k2894)))
  have k2971 := Xh2918.kd ((ma_kde Kh2916 (k2895)))
  have k2972 := Xh2918.kd ((ma_kde Kh2916 (k2896)))
  have k2973 := Xh2918.kd ((ma_kde Kh2916 (k2897)))
  have k2974 := Xh2918.kd ((ma_kde Kh2916 (k2898)))
  have k2975 := Xh2918.kd ((ma_kde Kh2916 (k2899)))
  have k2976 := Xh2918.kd ((ma_kde Kh2916 (k2900)))
  have k2977 := Xh2918.kd ((ma_kde Kh2916 (k2901)))
  have k2978 := Xh2918.kd ((ma_kde Kh2916 (k2902)))
  have k2979 := Xh2918.kd ((ma_kde Kh2916 (k2903)))
  have k2980 := Xh2918.kd ((ma_kde Kh2916 (k2904)))
  have k2981 := Xh2918.kd ((ma_kde Kh2916 (k2905)))
  have k2982 := Xh2918.kd ((ma_kde Kh2916 (k2906)))
  have k2983 := Xh2918.kd ((ma_kde Kh2916 (k2907)))
  have k2984 := Xh2918.kd ((ma_kde Kh2916 (k2908)))
  have k2985 := Xh2918.kd ((ma_kde Kh2916 (k2909)))
  have k2986 := Xh2918.kd ((ma_kde Kh2916 (k2910)))
  have k2987 := Xh2918.kd ((ma_kde Kh2916 (k2911)))
  have k2988 := Xh2918.kd ((ma_kde Kh2916 (k2912)))
  have k2989 := Xh2918.kd ((ma_kde Kh2916 (k2913)))
  have k2990 := Xh2918.kd ((ma_kde Kh2916 (k2914)))
  have k2991 : ah_kd h2918 (ah_sz h2916) = 40 := by rw [eh2918]; exact if_pos rfl
  obtain ⟨k2992, H⟩ := H
  refine mx_putA 8 101 (ref := "PrairiePoolModel") cl_8 (Nat.le_of_ble_eq_true rfl) (Or.inl q1728) (Or.inl rfl) dX8_init_603 (Or.inr ⟨rfl, rfl, rfl, q1728⟩) rfl (Or.inr k2992) k2920 ?_
  refine mx_nmR (ah_ext.wR (Or.inr (Or.inl k2992))) (fun h2993 eh2993 Xh2993 Kh2993 Lh2993 => ?_)
  have H := H h2993 eh2993 Xh2993
  refine mx_aload_n dX8_init_606 rfl rfl ?_
  refine mx_bipush dX8_init_607 ib_20 ?_
  obtain ⟨k2994, H⟩ := H
  refine mx_newa 0 rfl (by decide) q205 dX8_init_609 cn_20 (by decide) k2994.1 k2994.2 (by decide) (fun x_ lv_ => ?_)
  refine mx_nmN x_ lv_ (fun h2995 eh2995 Xh2995 lv_ => ?_)
  have H := H h2995 eh2995 Xh2995 lv_
  have k2996 := Xh2995.kd ((ma_kde Kh2993 (k2919)))
  have k2997 := Xh2995.kd ((ma_kde Kh2993 (k2920)))
  have k2998 := Xh2995.kd ((ma_kde Kh2993 (k2921)))
  have k2999 := Xh2995.kd ((ma_kde Kh2993 (k2922)))
  have k3000 := Xh2995.kd ((ma_kde Kh2993 (k2923)))
  have k3001 := Xh2995.kd ((ma_kde Kh2993 (k2924)))
  have k3002 := Xh2995.kd ((ma_kde Kh2993 (k2925)))
  have k3003 := Xh2995.kd ((ma_kde Kh2993 (k2926)))
  have k3004 := Xh2995.kd ((ma_kde Kh2993 (k2927)))
  have k3005 := Xh2995.kd ((ma_kde Kh2993 (k2928)))
  have k3006 := Xh2995.kd ((ma_kde Kh2993 (k2929)))
  have k3007 := Xh2995.kd ((ma_kde Kh2993 (k2930)))
  have k3008 := Xh2995.kd ((ma_kde Kh2993 (k2931)))
  have k3009 := Xh2995.kd ((ma_kde Kh2993 (k2932)))
  have k3010 := Xh2995.kd ((ma_kde Kh2993 (k2933)))
  have k3011 := Xh2995.kd ((ma_kde Kh2993 (k2934)))
  have k3012 := Xh2995.kd ((ma_kde Kh2993 (k2935)))
  have k3013 := Xh2995.kd ((ma_kde Kh2993 (k2936)))
  have k3014 := Xh2995.kd ((ma_kde Kh2993 (k2937)))
  have k3015 := Xh2995.kd ((ma_kde Kh2993 (k2938)))
  have k3016 := Xh2995.kd ((ma_kde Kh2993 (k2939)))
  have k3017 := Xh2995.kd ((ma_kde Kh2993 (k2940)))
  have k3018 := Xh2995.kd ((ma_kde Kh2993 (k2941)))
  have k3019 := Xh2995.kd ((ma_kde Kh2993 (k2942)))
  have k3020 := Xh2995.kd ((ma_kde Kh2993 (k2943)))
  have k3021 := Xh2995.kd ((ma_kde Kh2993 (k2944)))
  have k3022 := Xh2995.kd ((ma_kde Kh2993 (k2945)))
  have k3023 := Xh2995.kd ((ma_kde Kh2993 (k2946)))
  have k3024 := Xh2995.kd ((ma_kde Kh2993 (k2947)))
  have k3025 := Xh2995.kd ((ma_kde Kh2993 (k2948)))
  have k3026 := Xh2995.kd ((ma_kde Kh2993 (k2949)))
  have k3027 := Xh2995.kd ((ma_kde Kh2993 (k2950)))
  have k3028 := Xh2995.kd ((ma_kde Kh2993 (k2951)))
  have k3029 := Xh2995.kd ((ma_kde Kh2993 (k2952)))
  have k3030 := Xh2995.kd ((ma_kde Kh2993 (k2953)))
  have k3031 := Xh2995.kd ((ma_kde Kh2993 (k2954)))
  have k3032 := Xh2995.kd ((ma_kde Kh2993 (k2955)))
  have k3033 := Xh2995.kd ((ma_kde Kh2993 (k2956)))
  have k3034 := Xh2995.kd ((ma_kde Kh2993 (k2957)))
  have k3035 := Xh2995.kd ((ma_kde Kh2993 (k2958)))
  have k3036 := Xh2995.kd ((ma_kde Kh2993 (k2959)))
  have k3037 := Xh2995.kd ((ma_kde Kh2993 (k2960)))
  have k3038 := Xh2995.kd ((ma_kde Kh2993 (k2961)))
  have k3039 := Xh2995.kd ((ma_kde Kh2993 (k2962)))
  have k3040 := Xh2995.kd ((ma_kde Kh2993 (k2963)))
  have k3041 := Xh2995.kd ((ma_kde Kh2993 (k2964)))
  have k3042 := Xh2995.kd ((ma_kde Kh2993 (k2965)))
  have k3043 := Xh2995.kd ((ma_kde Kh2993 (k2966)))
  have k3044 := Xh2995.kd ((ma_kde Kh2993 (k2967)))
  have k3045 := Xh2995.kd ((ma_kde Kh2993 (k2968)))
  have k3046 := Xh2995.kd ((ma_kde Kh2993 (k2969)))
  have k3047 := Xh2995.kd ((ma_kde Kh2993 (k2970)))
  have k3048 := Xh2995.kd ((ma_kde Kh2993 (k2971)))
  have k3049 := Xh2995.kd ((ma_kde Kh2993 (k2972)))
  have k3050 := Xh2995.kd ((ma_kde Kh2993 (k2973)))
  have k3051 := Xh2995.kd ((ma_kde Kh2993 (k2974)))
  have k3052 := Xh2995.kd ((ma_kde Kh2993 (k2975)))
  have k3053 := Xh2995.kd ((ma_kde Kh2993 (k2976)))
  have k3054 := Xh2995.kd ((ma_kde Kh2993 (k2977)))
  have k3055 := Xh2995.kd ((ma_kde Kh2993 (k2978)))
  have k3056 := Xh2995.kd ((ma_kde Kh2993 (k2979)))
  have k3057 := Xh2995.kd ((ma_kde Kh2993 (k2980)))
  have k3058 := Xh2995.kd ((ma_kde Kh2993 (k2981)))
  have k3059 := Xh2995.kd ((ma_kde Kh2993 (k2982)))
  have k3060 := Xh2995.kd ((ma_kde Kh2993 (k2983)))
  have k3061 := Xh2995.kd ((ma_kde Kh2993 (k2984)))
  have k3062 := Xh2995.kd ((ma_kde Kh2993 (k2985)))
  have k3063 := Xh2995.kd ((ma_kde Kh2993 (k2986)))
  have k3064 := Xh2995.kd ((ma_kde Kh2993 (k2987)))
  have k3065 := Xh2995.kd ((ma_kde Kh2993 (k2988)))
  have k3066 := Xh2995.kd ((ma_kde Kh2993 (k2989)))
  have k3067 := Xh2995.kd ((ma_kde Kh2993 (k2990)))
  have k3068 := Xh2995.kd ((ma_kde Kh2993 (k2991)))
  have k3069 : ah_kd h2995 (ah_sz h2993) = 40 := by rw [eh2995]; exact if_pos rfl
  obtain ⟨k3070, H⟩ := H
  refine mx_putA 8 102 (ref := "PrairiePoolModel") cl_8 (Nat.le_of_ble_eq_true rfl) (Or.inl q1729) (Or.inl rfl) dX8_init_611 (Or.inr ⟨rfl, rfl, rfl, q1729⟩) rfl (Or.inr k3070) k2997 ?_
  refine mx_nmR (ah_ext.wR (Or.inr (Or.inl k3070))) (fun h3071 eh3071 Xh3071 Kh3071 Lh3071 => ?_)
  have H := H h3071 eh3071 Xh3071
  refine mx_aload_n dX8_init_614 rfl rfl ?_
  refine mx_bipush dX8_init_615 ib_20 ?_
  obtain ⟨k3072, H⟩ := H
  refine mx_newa 0 rfl (by decide) q205 dX8_init_617 cn_20 (by decide) k3072.1 k3072.2 (by decide) (fun x_ lv_ => ?_)
  refine mx_nmN x_ lv_ (fun h3073 eh3073 Xh3073 lv_ => ?_)
  have H := H h3073 eh3073 Xh3073 lv_
  have k3074 := Xh3073.kd ((ma_kde Kh3071 (k2996)))
  have k3075 := Xh3073.kd ((ma_kde Kh3071 (k2997)))
  have k3076 := Xh3073.kd ((ma_kde Kh3071 (k2998)))
  have k3077 := Xh3073.kd ((ma_kde Kh3071 (k2999)))
  have k3078 := Xh3073.kd ((ma_kde Kh3071 (k3000)))
  have k3079 := Xh3073.kd ((ma_kde Kh3071 (k3001)))
  have k3080 := Xh3073.kd ((ma_kde Kh3071 (k3002)))
  have k3081 := Xh3073.kd ((ma_kde Kh3071 (k3003)))
  have k3082 := Xh3073.kd ((ma_kde Kh3071 (k3004)))
  have k3083 := Xh3073.kd ((ma_kde Kh3071 (k3005)))
  have k3084 := Xh3073.kd ((ma_kde Kh3071 (k3006)))
  have k3085 := Xh3073.kd ((ma_kde Kh3071 (k3007)))
  have k3086 := Xh3073.kd ((ma_kde Kh3071 (k3008)))
  have k3087 := Xh3073.kd ((ma_kde Kh3071 (k3009)))
  have k3088 := Xh3073.kd ((ma_kde Kh3071 (k3010)))
  have k3089 := Xh3073.kd ((ma_kde Kh3071 (k3011)))
  have k3090 := Xh3073.kd ((ma_kde Kh3071 (k3012)))
  have k3091 := Xh3073.kd ((ma_kde Kh3071 (k3013)))
  have k3092 := Xh3073.kd ((ma_kde Kh3071 (k3014)))
  have k3093 := Xh3073.kd ((ma_kde Kh3071 (k3015)))
  have k3094 := Xh3073.kd ((ma_kde Kh3071 (k3016)))
  have k3095 := Xh3073.kd ((ma_kde Kh3071 (k3017)))
  have k3096 := Xh3073.kd ((ma_kde Kh3071 (k3018)))
  have k3097 := Xh3073.kd ((ma_kde Kh3071 (k3019)))
  have k3098 := Xh3073.kd ((ma_kde Kh3071 (k3020)))
  have k3099 := Xh3073.kd ((ma_kde Kh3071 (k3021)))
  have k3100 := Xh3073.kd ((ma_kde Kh3071 (k3022)))
  have k3101 := Xh3073.kd ((ma_kde Kh3071 (k3023)))
  have k3102 := Xh3073.kd ((ma_kde Kh3071 (k3024)))
  have k3103 := Xh3073.kd ((ma_kde Kh3071 (k3025)))
  have k3104 := Xh3073.kd ((ma_kde Kh3071 (k3026)))
  have k3105 := Xh3073.kd ((ma_kde Kh3071 (k3027)))
  have k3106 := Xh3073.kd ((ma_kde Kh3071 (k3028)))
  have k3107 := Xh3073.kd ((ma_kde Kh3071 (k3029)))
  have k3108 := Xh3073.kd ((ma_kde Kh3071 (k3030)))
  have k3109 := Xh3073.kd ((ma_kde Kh3071 (k3031)))
  have k3110 := Xh3073.kd ((ma_kde Kh3071 (k3032)))
  have k3111 := Xh3073.kd ((ma_kde Kh3071 (k3033)))
  have k3112 := Xh3073.kd ((ma_kde Kh3071 (k3034)))
  have k3113 := Xh3073.kd ((ma_kde Kh3071 (k3035)))
  have k3114 := Xh3073.kd ((ma_kde Kh3071 (k3036)))
  have k3115 := Xh3073.kd ((ma_kde Kh3071 (k3037)))
  have k3116 := Xh3073.kd ((ma_kde Kh3071 (k3038)))
  have k3117 := Xh3073.kd ((ma_kde Kh3071 (k3039)))
  have k3118 := Xh3073.kd ((ma_kde Kh3071 (k3040)))
  have k3119 := Xh3073.kd ((ma_kde Kh3071 (k3041)))
  have k3120 := Xh3073.kd ((ma_kde Kh3071 (k3042)))
  have k3121 := Xh3073.kd ((ma_kde Kh3071 (k3043)))
  have k3122 := Xh3073.kd ((ma_kde Kh3071 (k3044)))
  have k3123 := Xh3073.kd ((ma_kde Kh3071 (k3045)))
  have k3124 := Xh3073.kd ((ma_kde Kh3071 (k3046)))
  have k3125 := Xh3073.kd ((ma_kde Kh3071 (k3047)))
  have k3126 := Xh3073.kd ((ma_kde Kh3071 (k3048)))
  have k3127 := Xh3073.kd ((ma_kde Kh3071 (k3049)))
  have k3128 := Xh3073.kd ((ma_kde Kh3071 (k3050)))
  have k3129 := Xh3073.kd ((ma_kde Kh3071 (k3051)))
  have k3130 := Xh3073.kd ((ma_kde Kh3071 (k3052)))
  have k3131 := Xh3073.kd ((ma_kde Kh3071 (k3053)))
  have k3132 := Xh3073.kd ((ma_kde Kh3071 (k3054)))
  have k3133 := Xh3073.kd ((ma_kde Kh3071 (k3055)))
  have k3134 := Xh3073.kd ((ma_kde Kh3071 (k3056)))
  have k3135 := Xh3073.kd ((ma_kde Kh3071 (k3057)))
  have k3136 := Xh3073.kd ((ma_kde Kh3071 (k3058)))
  have k3137 := Xh3073.kd ((ma_kde Kh3071 (k3059)))
  have k3138 := Xh3073.kd ((ma_kde Kh3071 (k3060)))
  have k3139 := Xh3073.kd ((ma_kde Kh3071 (k3061)))
  have k3140 := Xh3073.kd ((ma_kde Kh3071 (k3062)))
  have k3141 := Xh3073.kd ((ma_kde Kh3071 (k3063)))
  have k3142 := Xh3073.kd ((ma_kde Kh3071 (k3064)))
  have k3143 := Xh3073.kd ((ma_kde Kh3071 (k3065)))
  have k3144 := Xh3073.kd ((ma_kde Kh3071 (k3066)))
  have k3145 := Xh3073.kd ((ma_kde Kh3071 (k3067)))
  have k3146 := Xh3073.kd ((ma_kde Kh3071 (k3068)))
  have k3147 := Xh3073.kd ((ma_kde Kh3071 (k3069)))
  have k3148 : ah_kd h3073 (ah_sz h3071) = 40 := by rw [eh3073]; exact if_pos rfl
  obtain ⟨k3149, H⟩ := H
  refine mx_putA 8 103 (ref := "PrairiePoolModel") cl_8 (Nat.le_of_ble_eq_true rfl) (Or.inl q1730) (Or.inl rfl) dX8_init_619 (Or.inr ⟨rfl, rfl, rfl, q1730⟩) rfl (Or.inr k3149) k3075 ?_
  refine mx_nmR (ah_ext.wR (Or.inr (Or.inl k3149))) (fun h3150 eh3150 Xh3150 Kh3150 Lh3150 => ?_)
  have H := H h3150 eh3150 Xh3150
  refine mx_aload_n dX8_init_622 rfl rfl ?_
  refine mx_bipush dX8_init_623 ib_11 ?_
  obtain ⟨k3151, H⟩ := H
  refine mx_newa 0 rfl (by decide) q205 dX8_init_625 cn_11 (by decide) k3151.1 k3151.2 (by decide) (fun x_ lv_ => ?_)
  refine mx_nmN x_ lv_ (fun h3152 eh3152 Xh3152 lv_ => ?_)
  have H := H h3152 eh3152 Xh3152 lv_
  have k3153 := Xh3152.kd ((ma_kde Kh3150 (k3074)))
  have k3154 := Xh3152.kd ((ma_kde Kh3150 (k3075)))
  have k3155 := Xh3152.kd ((ma_kde Kh3150 (k3076)))
  have k3156 := Xh3152.kd ((ma_kde Kh3150 (k3077)))
  have k3157 := Xh3152.kd ((ma_kde Kh3150 (k3078)))
  have k3158 := Xh3152.kd ((ma_kde Kh3150 (k3079)))
  have k3159 := Xh3152.kd ((ma_kde Kh3150 (k3080)))
  have k3160 := Xh3152.kd ((ma_kde Kh3150 (k3081)))
  have k3161 := Xh3152.kd ((ma_kde Kh3150 (k3082)))
  have k3162 := Xh3152.kd ((ma_kde Kh3150 (k3083)))
  have k3163 := Xh3152.kd ((ma_kde Kh3150 (k3084)))
  have k3164 := Xh3152.kd ((ma_kde Kh3150 (k3085)))
  have k3165 := Xh3152.kd ((ma_kde Kh3150 (k3086)))
  have k3166 := Xh3152.kd ((ma_kde Kh3150 (k3087)))
  have k3167 := Xh3152.kd ((ma_kde Kh3150 (k3088)))
  have k3168 := Xh3152.kd ((ma_kde Kh3150 (k3089)))
  have k3169 := Xh3152.kd ((ma_kde Kh3150 (k3090)))
  have k3170 := Xh3152.kd ((ma_kde Kh3150 (k3091)))
  have k3171 := Xh3152.kd ((ma_kde Kh3150 (k3092)))
  have k3172 := Xh3152.kd ((ma_kde Kh3150 (k3093)))
  have k3173 := Xh3152.kd ((ma_kde Kh3150 (k3094)))
  have k3174 := Xh3152.kd ((ma_kde Kh3150 (k3095)))
  have k3175 := Xh3152.kd ((ma_kde Kh3150 (k3096)))
  have k3176 := Xh3152.kd ((ma_kde Kh3150 (k3097)))
  have k3177 := Xh3152.kd ((ma_kde Kh3150 (k3098)))
  have k3178 := Xh3152.kd ((ma_kde Kh3150 (k3099)))
  have k3179 := Xh3152.kd ((ma_kde Kh3150 (k3100)))
  have k3180 := Xh3152.kd ((ma_kde Kh3150 (k3101)))
  have k3181 := Xh3152.kd ((ma_kde Kh3150 (k3102)))
  have k3182 := Xh3152.kd ((ma_kde Kh3150 (k3103)))
  have k3183 := Xh3152.kd ((ma_kde Kh3150 (k3104)))
  have k3184 := Xh3152.kd ((ma_kde Kh3150 (k3105)))
  have k3185 := Xh3152.kd ((ma_kde Kh3150 (k3106)))
  have k3186 := Xh3152.kd ((ma_kde Kh3150 (k3107)))
  have k3187 := Xh3152.kd ((ma_kde Kh3150 (k3108)))
  have k3188 := Xh3152.kd ((ma_kde Kh3150 (k3109)))
  have k3189 := Xh3152.kd ((ma_kde Kh3150 (k3110)))
  have k3190 := Xh3152.kd ((ma_kde Kh3150 (k3111)))
  have k3191 := Xh3152.kd ((ma_kde Kh3150 (k3112)))
  have k3192 := Xh3152.kd ((ma_kde Kh3150 (k3113)))
  have k3193 := Xh3152.kd ((ma_kde Kh3150 (k3114)))
  have k3194 := Xh3152.kd ((ma_kde Kh3150 (k3115)))
  have k3195 := Xh3152.kd ((ma_kde Kh3150 (k3116)))
  have k3196 := Xh3152.kd ((ma_kde Kh3150 (k3117)))
  have k3197 := Xh3152.kd ((ma_kde Kh3150 (k3118)))
  have k3198 := Xh3152.kd ((ma_kde Kh3150 (k3119)))
  have k3199 := Xh3152.kd ((ma_kde Kh3150 (k3120)))
  have k3200 := Xh3152.kd ((ma_kde Kh3150 (k3121)))
  have k3201 := Xh3152.kd ((ma_kde Kh3150 (k3122)))
  have k3202 := Xh3152.kd ((ma_kde Kh3150 (k3123)))
  have k3203 := Xh3152.kd ((ma_kde Kh3150 (k3124)))
  have k3204 := Xh3152.kd ((ma_kde Kh3150 (k3125)))
  have k3205 := Xh3152.kd ((ma_kde Kh3150 (k3126)))
  have k3206 := Xh3152.kd ((ma_kde Kh3150 (k3127)))
  have k3207 := Xh3152.kd ((ma_kde Kh3150 (k3128)))
  have k3208 := Xh3152.kd ((ma_kde Kh3150 (k3129)))
  have k3209 := Xh3152.kd ((ma_kde Kh3150 (k3130)))
  have k3210 := Xh3152.kd ((ma_kde Kh3150 (k3131)))
  have k3211 := Xh3152.kd ((ma_kde Kh3150 (k3132)))
  have k3212 := Xh3152.kd ((ma_kde Kh3150 (k3133)))
  have k3213 := Xh3152.kd ((ma_kde Kh3150 (k3134)))
  have k3214 := Xh3152.kd ((ma_kde Kh3150 (k3135)))
  have k3215 := Xh3152.kd ((ma_kde Kh3150 (k3136)))
  have k3216 := Xh3152.kd ((ma_kde Kh3150 (k3137)))
  have k3217 := Xh3152.kd ((ma_kde Kh3150 (k3138)))
  have k3218 := Xh3152.kd ((ma_kde Kh3150 (k3139)))
  have k3219 := Xh3152.kd ((ma_kde Kh3150 (k3140)))
  have k3220 := Xh3152.kd ((ma_kde Kh3150 (k3141)))
  have k3221 := Xh3152.kd ((ma_kde Kh3150 (k3142)))
  have k3222 := Xh3152.kd ((ma_kde Kh3150 (k3143)))
  have k3223 := Xh3152.kd ((ma_kde Kh3150 (k3144)))
  have k3224 := Xh3152.kd ((ma_kde Kh3150 (k3145)))
  have k3225 := Xh3152.kd ((ma_kde Kh3150 (k3146)))
  have k3226 := Xh3152.kd ((ma_kde Kh3150 (k3147)))
  have k3227 := Xh3152.kd ((ma_kde Kh3150 (k3148)))
  have k3228 : ah_kd h3152 (ah_sz h3150) = 40 := by rw [eh3152]; exact if_pos rfl
  obtain ⟨k3229, H⟩ := H
  refine mx_putA 8 104 (ref := "PrairiePoolModel") cl_8 (Nat.le_of_ble_eq_true rfl) (Or.inl q1731) (Or.inl rfl) dX8_init_627 (Or.inr ⟨rfl, rfl, rfl, q1731⟩) rfl (Or.inr k3229) k3154 ?_
  refine mx_nmR (ah_ext.wR (Or.inr (Or.inl k3229))) (fun h3230 eh3230 Xh3230 Kh3230 Lh3230 => ?_)
  have H := H h3230 eh3230 Xh3230
  refine mx_aload_n dX8_init_630 rfl rfl ?_
  refine mx_bipush dX8_init_631 ib_11 ?_
  obtain ⟨k3231, H⟩ := H
  refine mx_newa 0 rfl (by decide) q205 dX8_init_633 cn_11 (by decide) k3231.1 k3231.2 (by decide) (fun x_ lv_ => ?_)
  refine mx_nmN x_ lv_ (fun h3232 eh3232 Xh3232 lv_ => ?_)
  have H := H h3232 eh3232 Xh3232 lv_
  have k3233 := Xh3232.kd ((ma_kde Kh3230 (k3153)))
  have k3234 := Xh3232.kd ((ma_kde Kh3230 (k3154)))
  have k3235 := Xh3232.kd ((ma_kde Kh3230 (k3155)))
  have k3236 := Xh3232.kd ((ma_kde Kh3230 (k3156)))
  have k3237 := Xh3232.kd ((ma_kde Kh3230 (k3157)))
  have k3238 := Xh3232.kd ((ma_kde Kh3230 (k3158)))
  have k3239 := Xh3232.kd ((ma_kde Kh3230 (k3159)))
  have k3240 := Xh3232.kd ((ma_kde Kh3230 (k3160)))
  have k3241 := Xh3232.kd ((ma_kde Kh3230 (k3161)))
  have k3242 := Xh3232.kd ((ma_kde Kh3230 (k3162)))
  have k3243 := Xh3232.kd ((ma_kde Kh3230 (k3163)))
  have k3244 := Xh3232.kd ((ma_kde Kh3230 (k3164)))
  have k3245 := Xh3232.kd ((ma_kde Kh3230 (k3165)))
  have k3246 := Xh3232.kd ((ma_kde Kh3230 (k3166)))
  have k3247 := Xh3232.kd ((ma_kde Kh3230 (k3167)))
  have k3248 := Xh3232.kd ((ma_kde Kh3230 (k3168)))
  have k3249 := Xh3232.kd ((ma_kde Kh3230 (k3169)))
  have k3250 := Xh3232.kd ((ma_kde Kh3230 (k3170)))
  have k3251 := Xh3232.kd ((ma_kde Kh3230 (k3171)))
  have k3252 := Xh3232.kd ((ma_kde Kh3230 (k3172)))
  have k3253 := Xh3232.kd ((ma_kde Kh3230 (k3173)))
  have k3254 := Xh3232.kd ((ma_kde Kh3230 (k3174)))
  have k3255 := Xh3232.kd ((ma_kde Kh3230 (k3175)))
  have k3256 := Xh3232.kd ((ma_kde Kh3230 (k3176)))
  have k3257 := Xh3232.kd ((ma_kde Kh3230 (k3177)))
  have k3258 := Xh3232.kd ((ma_kde Kh3230 (k3178)))
  have k3259 := Xh3232.kd ((ma_kde Kh3230 (k3179)))
  have k3260 := Xh3232.kd ((ma_kde Kh3230 (k3180)))
  have k3261 := Xh3232.kd ((ma_kde Kh3230 (k3181)))
  have k3262 := Xh3232.kd ((ma_kde Kh3230 (k3182)))
  have k3263 := Xh3232.kd ((ma_kde Kh3230 (k3183)))
  have k3264 := Xh3232.kd ((ma_kde Kh3230 (k3184)))
  have k3265 := Xh3232.kd ((ma_kde Kh3230 (k3185)))
  have k3266 := Xh3232.kd ((ma_kde Kh3230 (k3186)))
  have k3267 := Xh3232.kd ((ma_kde Kh3230 (k3187)))
  have k3268 := Xh3232.kd ((ma_kde Kh3230 (k3188)))
  have k3269 := Xh3232.kd ((ma_kde Kh3230 (k3189)))
  have k3270 := Xh3232.kd ((ma_kde Kh3230 (k3190)))
  have k3271 := Xh3232.kd ((ma_kde Kh3230 (k3191)))
  have k3272 := Xh3232.kd ((ma_kde Kh3230 (k3192)))
  have k3273 := Xh3232.kd ((ma_kde Kh3230 (k3193)))
  have k3274 := Xh3232.kd ((ma_kde Kh3230 (k3194)))
  have k3275 := Xh3232.kd ((ma_kde Kh3230 (k3195)))
  have k3276 := Xh3232.kd ((ma_kde Kh3230 (k3196)))
  have k3277 := Xh3232.kd ((ma_kde Kh3230 (k3197)))
  have k3278 := Xh3232.kd ((ma_kde Kh3230 (k3198)))
  have k3279 := Xh3232.kd ((ma_kde Kh3230 (k3199)))
  have k3280 := Xh3232.kd ((ma_kde Kh3230 (k3200)))
  have k3281 := Xh3232.kd ((ma_kde Kh3230 (k3201)))
  have k3282 := Xh3232.kd ((ma_kde Kh3230 (k3202)))
  have k3283 := Xh3232.kd ((ma_kde Kh3230 (k3203)))
  have k3284 := Xh3232.kd ((ma_kde Kh3230 (k3204)))
  have k3285 := Xh3232.kd ((ma_kde Kh3230 (k3205)))
  have k3286 := Xh3232.kd ((ma_kde Kh3230 (k3206)))
  have k3287 := Xh3232.kd ((ma_kde Kh3230 (k3207)))
  have k3288 := Xh3232.kd ((ma_kde Kh3230 (k3208)))
  have k3289 := Xh3232.kd ((ma_kde Kh3230 (k3209)))
  have k3290 := Xh3232.kd ((ma_kde Kh3230 (k3210)))
  have k3291 := Xh3232.kd ((ma_kde Kh3230 (k3211)))
  have k3292 := Xh3232.kd ((ma_kde Kh3230 (k3212)))
  have k3293 := Xh3232.kd ((ma_kde Kh3230 (k3213)))
  have k3294 := Xh3232.kd ((ma_kde Kh3230 (k3214)))
  have k3295 := Xh3232.kd ((ma_kde Kh3230 (k3215)))
  have k3296 := Xh3232.kd ((ma_kde Kh3230 (k3216)))
  have k3297 := Xh3232.kd ((ma_kde Kh3230 (k3217)))
  have k3298 := Xh3232.kd ((ma_kde Kh3230 (k3218)))
  have k3299 := Xh3232.kd ((ma_kde Kh3230 (k3219)))
  have k3300 := Xh3232.kd ((ma_kde Kh3230 (k3220)))
  have k3301 := Xh3232.kd ((ma_kde Kh3230 (k3221)))
  have k3302 := Xh3232.kd ((ma_kde Kh3230 (k3222)))
  have k3303 := Xh3232.kd ((ma_kde Kh3230 (k3223)))
  have k3304 := Xh3232.kd ((ma_kde Kh3230 (k3224)))
  have k3305 := Xh3232.kd ((ma_kde Kh3230 (k3225)))
  have k3306 := Xh3232.kd ((ma_kde Kh3230 (k3226)))
  have k3307 := Xh3232.kd ((ma_kde Kh3230 (k3227)))
  have k3308 := Xh3232.kd ((ma_kde Kh3230 (k3228)))
  have k3309 : ah_kd h3232 (ah_sz h3230) = 40 := by rw [eh3232]; exact if_pos rfl
  obtain ⟨k3310, H⟩ := H
  refine mx_putA 8 105 (ref := "PrairiePoolModel") cl_8 (Nat.le_of_ble_eq_true rfl) (Or.inl q1732) (Or.inl rfl) dX8_init_635 (Or.inr ⟨rfl, rfl, rfl, q1732⟩) rfl (Or.inr k3310) k3234 ?_
  refine mx_nmR (ah_ext.wR (Or.inr (Or.inl k3310))) (fun h3311 eh3311 Xh3311 Kh3311 Lh3311 => ?_)
  have H := H h3311 eh3311 Xh3311
  refine mx_aload_n dX8_init_638 rfl rfl ?_
  refine mx_bipush dX8_init_639 ib_8 ?_
  obtain ⟨k3312, H⟩ := H
  refine mx_newa 0 rfl (by decide) q205 dX8_init_641 cn_8 (by decide) k3312.1 k3312.2 (by decide) (fun x_ lv_ => ?_)
  refine mx_nmN x_ lv_ (fun h3313 eh3313 Xh3313 lv_ => ?_)
  have H := H h3313 eh3313 Xh3313 lv_
  have k3314 := Xh3313.kd ((ma_kde Kh3311 (k3233)))
  have k3315 := Xh3313.kd ((ma_kde Kh3311 (k3234)))
  have k3316 := Xh3313.kd ((ma_kde Kh3311 (k3235)))
  have k3317 := Xh3313.kd ((ma_kde Kh3311 (k3236)))
  have k3318 := Xh3313.kd ((ma_kde Kh3311 (k3237)))
  have k3319 := Xh3313.kd ((ma_kde Kh3311 (k3238)))
  have k3320 := Xh3313.kd ((ma_kde Kh3311 (k3239)))
  have k3321 := Xh3313.kd ((ma_kde Kh3311 (k3240)))
  have k3322 := Xh3313.kd ((ma_kde Kh3311 (k3241)))
  have k3323 := Xh3313.kd ((ma_kde Kh3311 (k3242)))
  have k3324 := Xh3313.kd ((ma_kde Kh3311 (k3243)))
  have k3325 := Xh3313.kd ((ma_kde Kh3311 (k3244)))
  have k3326 := Xh3313.kd ((ma_kde Kh3311 (k3245)))
  have k3327 := Xh3313.kd ((ma_kde Kh3311 (k3246)))
  have k3328 := Xh3313.kd ((ma_kde Kh3311 (k3247)))
  have k3329 := Xh3313.kd ((ma_kde Kh3311 (k3248)))
  have k3330 := Xh3313.kd ((ma_kde Kh3311 (k3249)))
  have k3331 := Xh3313.kd ((ma_kde Kh3311 (k3250)))
  have k3332 := Xh3313.kd ((ma_kde Kh3311 (k3251)))
  have k3333 := Xh3313.kd ((ma_kde Kh3311 (k3252)))
  have k3334 := Xh3313.kd ((ma_kde Kh3311 (k3253)))
  have k3335 := Xh3313.kd ((ma_kde Kh3311 (k3254)))
  have k3336 := Xh3313.kd ((ma_kde Kh3311 (k3255)))
  have k3337 := Xh3313.kd ((ma_kde Kh3311 (k3256)))
  have k3338 := Xh3313.kd ((ma_kde Kh3311 (k3257)))
  have k3339 := Xh3313.kd ((ma_kde Kh3311 (k3258)))
  have k3340 := Xh3313.kd ((ma_kde Kh3311 (k3259)))
  have k3341 := Xh3313.kd ((ma_kde Kh3311 (k3260)))
  have k3342 := Xh3313.kd ((ma_kde Kh3311 (k3261)))
  have k3343 := Xh3313.kd ((ma_kde Kh3311 (k3262)))
  have k3344 := Xh3313.kd ((ma_kde Kh3311 (k3263)))
  have k3345 := Xh3313.kd ((ma_kde Kh3311 (k3264)))
  have k3346 := Xh3313.kd ((ma_kde Kh3311 (k3265)))
  have k3347 := Xh3313.kd ((ma_kde Kh3311 (k3266)))
  have k3348 := Xh3313.kd ((ma_kde Kh3311 (k3267)))
  have k3349 := Xh3313.kd ((ma_kde Kh3311 (k3268)))
  have k3350 := Xh3313.kd ((ma_kde Kh3311 (k3269)))
  have k3351 := Xh3313.kd ((ma_kde Kh3311 (k3270)))
  have k3352 := Xh3313.kd ((ma_kde Kh3311 (k3271)))
  have k3353 := Xh3313.kd ((ma_kde Kh3311 (k3272)))
  have k3354 := Xh3313.kd ((ma_kde Kh3311 (k3273)))
  have k3355 := Xh3313.kd ((ma_kde Kh3311 (k3274)))
  have k3356 := Xh3313.kd ((ma_kde Kh3311 (k3275)))
  have k3357 := Xh3313.kd ((ma_kde Kh3311 (k3276)))
  have k3358 := Xh3313.kd ((ma_kde Kh3311 (k3277)))
  have k3359 := Xh3313.kd ((ma_kde Kh3311 (k3278)))
  have k3360 := Xh3313.kd ((ma_kde Kh3311 (k3279)))
  have k3361 := Xh3313.kd ((ma_kde Kh3311 (k3280)))
  have k3362 := Xh3313.kd ((ma_kde Kh3311 (k3281)))
  have k3363 := Xh3313.kd ((ma_kde Kh3311 (k3282)))
  have k3364 := Xh3313.kd ((ma_kde Kh3311 (k3283)))
  have k3365 := Xh3313.kd ((ma_kde Kh3311 (k3284)))
  have k3366 := Xh3313.kd ((ma_kde Kh3311 (k3285)))
  have k3367 := Xh3313.kd ((ma_kde Kh3311 (k3286)))
  have k3368 := Xh3313.kd ((ma_kde Kh3311 (k3287)))
  have k3369 := Xh3313.kd ((ma_kde Kh3311 (k3288)))
  have k3370 := Xh3313.kd ((ma_kde Kh3311 (k3289)))
  have k3371 := Xh3313.kd ((ma_kde Kh3311 (k3290)))
  have k3372 := Xh3313.kd ((ma_kde Kh3311 (k3291)))
  have k3373 := Xh3313.kd ((ma_kde Kh3311 (k3292)))
  have k3374 := Xh3313.kd ((ma_kde Kh3311 (k3293)))
  have k3375 := Xh3313.kd ((ma_kde Kh3311 (k3294)))
  have k3376 := Xh3313.kd ((ma_kde Kh3311 (k3295)))
  have k3377 := Xh3313.kd ((ma_kde Kh3311 (k3296)))
  have k3378 := Xh3313.kd ((ma_kde Kh3311 (k3297)))
  have k3379 := Xh3313.kd ((ma_kde Kh3311 (k3298)))
  have k3380 := Xh3313.kd ((ma_kde Kh3311 (k3299)))
  have k3381 := Xh3313.kd ((ma_kde Kh3311 (k3300)))
  have k3382 := Xh3313.kd ((ma_kde Kh3311 (k3301)))
  have k3383 := Xh3313.kd ((ma_kde Kh3311 (k3302)))
  have k3384 := Xh3313.kd ((ma_kde Kh3311 (k3303)))
  have k3385 := Xh3313.kd ((ma_kde Kh3311 (k3304)))
  have k3386 := Xh3313.kd ((ma_kde Kh3311 (k3305)))
  have k3387 := Xh3313.kd ((ma_kde Kh3311 (k3306)))
  have k3388 := Xh3313.kd ((ma_kde Kh3311 (k3307)))
  have k3389 := Xh3313.kd ((ma_kde Kh3311 (k3308)))
  have k3390 := Xh3313.kd ((ma_kde Kh3311 (k3309)))
  have k3391 : ah_kd h3313 (ah_sz h3311) = 40 := by rw [eh3313]; exact if_pos rfl
  obtain ⟨k3392, H⟩ := H
  refine mx_putA 8 106 (ref := "PrairiePoolModel") cl_8 (Nat.le_of_ble_eq_true rfl) (Or.inl q1733) (Or.inl rfl) dX8_init_643 (Or.inr ⟨rfl, rfl, rfl, q1733⟩) rfl (Or.inr k3392) k3315 ?_
  refine mx_nmR (ah_ext.wR (Or.inr (Or.inl k3392))) (fun h3393 eh3393 Xh3393 Kh3393 Lh3393 => ?_)
  have H := H h3393 eh3393 Xh3393
  refine mx_iconst dX8_init_646 ic_0 ?_
  refine mx_istore_n (al' := [some (rv a0), some (iv (0 : Int32))]) dX8_init_647 rfl (Nat.le_of_ble_eq_true rfl) rfl ?_
  exact mx_weak (al' := [some (rv a0), some (iv (0 : Int32))]) ⟨rfl, ⟨rfl, trivial⟩⟩ H
theorem v_X8_init_648 {G : ma_G} {d : Nat} {a0 : Nat} {x1 : Int32} {h : ah_T} {Q : Option ma_V → ah_T → Prop} {E : Nat → ah_T → Prop}  (H : ((4 : Int32) ≤ x1 → MX G mi_X8_init (d + 1) 668 [some (rv a0), some (iv (0 : Int32))] [] h Q E) ∧ (¬ (4 : Int32) ≤ x1 → ah_kd h a0 = 9 ∧ aok h 40 (ah_R h a0 3) x1 ∧ ∀ h4 : ah_T, h4 = ah_wI h (ah_R h a0 3) x1.toNatClampNeg (-1 : Int32) → ah_ext h h4 → MX G mi_X8_init (d + 1) 648 [some (rv a0), some (iv (x1 + (1 : Int32)))] [] h4 Q E)) : MX G mi_X8_init (d + 1) 648 [some (rv a0), some (iv x1)] [] h Q E := by
  refine mx_iload_n dX8_init_648 rfl rfl ?_
  refine mx_iconst dX8_init_649 ic_4 ?_
  refine mx_icmp_ge (tgt := 666) dX8_init_650 rfl (fun c1 => ?_) (fun c1 => ?_)
  · have H := H.1 c1
    refine mx_iconst dX8_init_666 ic_0 ?_
    refine mx_istore_n (al' := [some (rv a0), some (iv (0 : Int32))]) dX8_init_667 rfl (Nat.le_of_ble_eq_true rfl) rfl ?_
    exact mx_weak (al' := [some (rv a0), some (iv (0 : Int32))]) ⟨rfl, ⟨rfl, trivial⟩⟩ H
  · have H := H.2 c1
    refine mx_aload_n dX8_init_653 rfl rfl ?_
    obtain ⟨k2, H⟩ := H
    refine mx_get 8 3 (ref := "PrairiePoolModel") cl_8 (Nat.le_of_ble_eq_true rfl) (Or.inl q1630) (Or.inl rfl) dX8_init_654 (fv_8_3 _ _) k2 ?_
    refine mx_iload_n dX8_init_657 rfl rfl ?_
    refine mx_iconst dX8_init_658 ic_m1 ?_
    obtain ⟨k3, H⟩ := H
    refine my_iast dX8_init_659 rfl k3 ?_
    refine mx_nmI  (fun h4 eh4 Xh4 Kh4 Lh4 => ?_)
    have H := H h4 eh4 Xh4
    refine mx_iinc (al' := [some (rv a0), some (iv (x1 + (1 : Int32)))]) dX8_init_660 rfl ic_1 rfl ?_
    refine mx_goto (tgt := 648) dX8_init_663 rfl ?_
    exact mx_weak (al' := [some (rv a0), some (iv (x1 + (1 : Int32)))]) ⟨rfl, ⟨rfl, trivial⟩⟩ H
theorem v_X8_init_668 {G : ma_G} {d : Nat} {a0 : Nat} {x1 : Int32} {h : ah_T} {Q : Option ma_V → ah_T → Prop} {E : Nat → ah_T → Prop}  (H : ((20 : Int32) ≤ x1 → Q none h) ∧ (¬ (20 : Int32) ≤ x1 → ah_kd h a0 = 9 ∧ aok h 40 (ah_R h a0 79) x1 ∧ ∀ h4 : ah_T, h4 = ah_wI h (ah_R h a0 79) x1.toNatClampNeg (-1 : Int32) → ah_ext h h4 → aok h 40 (ah_R h a0 80) x1 ∧ ∀ h6 : ah_T, h6 = ah_wI h4 (ah_R h a0 80) x1.toNatClampNeg (-1 : Int32) → ah_ext h4 h6 → aok h 40 (ah_R h a0 81) x1 ∧ ∀ h8 : ah_T, h8 = ah_wI h6 (ah_R h a0 81) x1.toNatClampNeg (-1 : Int32) → ah_ext h6 h8 → MX G mi_X8_init (d + 1) 668 [some (rv a0), some (iv (x1 + (1 : Int32)))] [] h8 Q E)) : MX G mi_X8_init (d + 1) 668 [some (rv a0), some (iv x1)] [] h Q E := by
  refine mx_iload_n dX8_init_668 rfl rfl ?_
  refine mx_bipush dX8_init_669 ib_20 ?_
  refine mx_icmp_ge (tgt := 701) dX8_init_671 rfl (fun c1 => ?_) (fun c1 => ?_)
  · have H := H.1 c1
    exact mx_vret rfl dX8_init_701 H
  · have H := H.2 c1
    refine mx_aload_n dX8_init_674 rfl rfl ?_
    obtain ⟨k2, H⟩ := H
    refine mx_get 8 79 (ref := "PrairiePoolModel") cl_8 (Nat.le_of_ble_eq_true rfl) (Or.inl q1706) (Or.inl rfl) dX8_init_675 (fv_8_79 _ _) k2 ?_
    refine mx_iload_n dX8_init_678 rfl rfl ?_
    refine mx_iconst dX8_init_679 ic_m1 ?_
    obtain ⟨k3, H⟩ := H
    refine my_iast dX8_init_680 rfl k3 ?_
    refine mx_nmI  (fun h4 eh4 Xh4 Kh4 Lh4 => ?_)
    have H := H h4 eh4 Xh4
    refine mx_aload_n dX8_init_681 rfl rfl ?_
    refine mx_get 8 80 (ref := "PrairiePoolModel") cl_8 (Nat.le_of_ble_eq_true rfl) (Or.inl q1707) (Or.inl rfl) dX8_init_682 (fv_8_80 _ _) (ma_kde Kh4 (k2)) ?_
    refine mx_tr (ah_RI eh4) ?_
    refine mx_iload_n dX8_init_685 rfl rfl ?_
    refine mx_iconst dX8_init_686 ic_m1 ?_
    obtain ⟨k5, H⟩ := H
    refine my_iast dX8_init_687 rfl (ma_aok Kh4 Lh4 (k5)) ?_
    refine mx_nmI  (fun h6 eh6 Xh6 Kh6 Lh6 => ?_)
    have H := H h6 eh6 Xh6
    have Kh6 := Kh6.trans Kh4
    have Lh6 := Lh6.trans Lh4
    refine mx_aload_n dX8_init_688 rfl rfl ?_
    refine mx_get 8 81 (ref := "PrairiePoolModel") cl_8 (Nat.le_of_ble_eq_true rfl) (Or.inl q1708) (Or.inl rfl) dX8_init_689 (fv_8_81 _ _) (ma_kde Kh6 (k2)) ?_
    refine mx_tr ((ah_RI eh6).trans (ah_RI eh4)) ?_
    refine mx_iload_n dX8_init_692 rfl rfl ?_
    refine mx_iconst dX8_init_693 ic_m1 ?_
    obtain ⟨k7, H⟩ := H
    refine my_iast dX8_init_694 rfl (ma_aok Kh6 Lh6 (k7)) ?_
    refine mx_nmI  (fun h8 eh8 Xh8 Kh8 Lh8 => ?_)
    have H := H h8 eh8 Xh8
    have Kh8 := Kh8.trans Kh6
    have Lh8 := Lh8.trans Lh6
    refine mx_iinc (al' := [some (rv a0), some (iv (x1 + (1 : Int32)))]) dX8_init_695 rfl ic_1 rfl ?_
    refine mx_goto (tgt := 668) dX8_init_698 rfl ?_
    exact mx_weak (al' := [some (rv a0), some (iv (x1 + (1 : Int32)))]) ⟨rfl, ⟨rfl, trivial⟩⟩ H
theorem dX8_status_0 : decode mi_X8_status.2.1 0 = .ok (.aload_n 0, 1) := by decide +kernel
theorem dX8_status_1 : decode mi_X8_status.2.1 1 = .ok (.iconst 0, 1) := by decide +kernel
theorem dX8_status_2 : decode mi_X8_status.2.1 2 = .ok (.putfield 257, 3) := by decide +kernel
theorem dX8_status_5 : decode mi_X8_status.2.1 5 = .ok (.aload_n 0, 1) := by decide +kernel
theorem dX8_status_6 : decode mi_X8_status.2.1 6 = .ok (.getfield 260, 3) := by decide +kernel
theorem dX8_status_9 : decode mi_X8_status.2.1 9 = .ok (.ireturn, 1) := by decide +kernel
theorem v_X8_status {G : ma_G} {d : Nat} {a0 : Nat} {h : ah_T} {Q : Option ma_V → ah_T → Prop} {E : Nat → ah_T → Prop} (La0_h : LY8 h a0) (H : ∀ h1 : ah_T, h1 = ah_wI h a0 1 (0 : Int32) → ah_ext h h1 → Q (some (iv (ah_I h a0 0))) h1) : MX G mi_X8_status d 0 [some (rv a0)] [] h Q E := by
  refine mx_aload_n dX8_status_0 rfl rfl ?_
  refine mx_iconst dX8_status_1 ic_0 ?_
  refine mx_putI 8 1 (ref := "PrairiePoolModel") cl_8 (Nat.le_of_ble_eq_true rfl) (Or.inl q1628) (Or.inl rfl) dX8_status_2 (Or.inl rfl) rfl (ly8_k La0_h) ?_
  refine mx_nmI  (fun h1 eh1 Xh1 Kh1 Lh1 => ?_)
  have H := H h1 eh1 Xh1
  have La0_h1 := La0_h.ext Xh1
  refine mx_aload_n dX8_status_5 rfl rfl ?_
  refine mx_get 8 0 (ref := "PrairiePoolModel") cl_8 (Nat.le_of_ble_eq_true rfl) (Or.inl q1627) (Or.inl rfl) dX8_status_6 (fv_8_0 _ _) (ly8_k La0_h1) ?_
  refine mx_ti (ah_skIK eh1 (by decide)) ?_
  exact mx_iret rfl dX8_status_9 H
theorem dX8_tray_0 : decode mi_X8_tray.2.1 0 = .ok (.aload_n 0, 1) := by decide +kernel
theorem dX8_tray_1 : decode mi_X8_tray.2.1 1 = .ok (.iconst 0, 1) := by decide +kernel
theorem dX8_tray_2 : decode mi_X8_tray.2.1 2 = .ok (.putfield 257, 3) := by decide +kernel
theorem dX8_tray_5 : decode mi_X8_tray.2.1 5 = .ok (.aload_n 0, 1) := by decide +kernel
theorem dX8_tray_6 : decode mi_X8_tray.2.1 6 = .ok (.iconst 0, 1) := by decide +kernel
theorem dX8_tray_7 : decode mi_X8_tray.2.1 7 = .ok (.putfield 260, 3) := by decide +kernel
theorem dX8_tray_10 : decode mi_X8_tray.2.1 10 = .ok (.iload_n 1, 1) := by decide +kernel
theorem dX8_tray_11 : decode mi_X8_tray.2.1 11 = .ok (.ifCond .lt 17, 3) := by decide +kernel
theorem dX8_tray_14 : decode mi_X8_tray.2.1 14 = .ok (.iload_n 1, 1) := by decide +kernel
theorem dX8_tray_15 : decode mi_X8_tray.2.1 15 = .ok (.iconst 4, 1) := by decide +kernel
theorem dX8_tray_16 : decode mi_X8_tray.2.1 16 = .ok (.if_icmp .ge 12, 3) := by decide +kernel
theorem dX8_tray_19 : decode mi_X8_tray.2.1 19 = .ok (.iload_n 2, 1) := by decide +kernel
theorem dX8_tray_20 : decode mi_X8_tray.2.1 20 = .ok (.ifCond .lt 8, 3) := by decide +kernel
theorem dX8_tray_23 : decode mi_X8_tray.2.1 23 = .ok (.iload_n 2, 1) := by decide +kernel
theorem dX8_tray_24 : decode mi_X8_tray.2.1 24 = .ok (.iconst 3, 1) := by decide +kernel
theorem dX8_tray_25 : decode mi_X8_tray.2.1 25 = .ok (.if_icmp .le 9, 3) := by decide +kernel
theorem dX8_tray_28 : decode mi_X8_tray.2.1 28 = .ok (.aload_n 0, 1) := by decide +kernel
theorem dX8_tray_29 : decode mi_X8_tray.2.1 29 = .ok (.iconst 1, 1) := by decide +kernel
theorem dX8_tray_30 : decode mi_X8_tray.2.1 30 = .ok (.invokevirtual 273, 3) := by decide +kernel
theorem dX8_tray_33 : decode mi_X8_tray.2.1 33 = .ok (.ireturn, 1) := by decide +kernel
theorem dX8_tray_34 : decode mi_X8_tray.2.1 34 = .ok (.iload_n 3, 1) := by decide +kernel
theorem dX8_tray_35 : decode mi_X8_tray.2.1 35 = .ok (.bipush 40, 2) := by decide +kernel
theorem dX8_tray_37 : decode mi_X8_tray.2.1 37 = .ok (.if_icmp .le 9, 3) := by decide +kernel
theorem dX8_tray_40 : decode mi_X8_tray.2.1 40 = .ok (.aload_n 0, 1) := by decide +kernel
theorem dX8_tray_41 : decode mi_X8_tray.2.1 41 = .ok (.iconst 5, 1) := by decide +kernel
theorem dX8_tray_42 : decode mi_X8_tray.2.1 42 = .ok (.invokevirtual 273, 3) := by decide +kernel
theorem dX8_tray_45 : decode mi_X8_tray.2.1 45 = .ok (.ireturn, 1) := by decide +kernel
theorem dX8_tray_46 : decode mi_X8_tray.2.1 46 = .ok (.iload_n 3, 1) := by decide +kernel
theorem dX8_tray_47 : decode mi_X8_tray.2.1 47 = .ok (.ifCond .ge 10, 3) := by decide +kernel
theorem dX8_tray_50 : decode mi_X8_tray.2.1 50 = .ok (.aload_n 0, 1) := by decide +kernel
theorem dX8_tray_51 : decode mi_X8_tray.2.1 51 = .ok (.bipush 6, 2) := by decide +kernel
theorem dX8_tray_53 : decode mi_X8_tray.2.1 53 = .ok (.invokevirtual 273, 3) := by decide +kernel
theorem dX8_tray_56 : decode mi_X8_tray.2.1 56 = .ok (.ireturn, 1) := by decide +kernel
theorem dX8_tray_57 : decode mi_X8_tray.2.1 57 = .ok (.aload_n 0, 1) := by decide +kernel
theorem dX8_tray_58 : decode mi_X8_tray.2.1 58 = .ok (.getfield 7, 3) := by decide +kernel
theorem dX8_tray_61 : decode mi_X8_tray.2.1 61 = .ok (.iload_n 1, 1) := by decide +kernel
theorem dX8_tray_62 : decode mi_X8_tray.2.1 62 = .ok (.iload_n 2, 1) := by decide +kernel
theorem dX8_tray_63 : decode mi_X8_tray.2.1 63 = .ok (.iastore, 1) := by decide +kernel
theorem dX8_tray_64 : decode mi_X8_tray.2.1 64 = .ok (.aload_n 0, 1) := by decide +kernel
theorem dX8_tray_65 : decode mi_X8_tray.2.1 65 = .ok (.getfield 13, 3) := by decide +kernel
theorem dX8_tray_68 : decode mi_X8_tray.2.1 68 = .ok (.iload_n 1, 1) := by decide +kernel
theorem dX8_tray_69 : decode mi_X8_tray.2.1 69 = .ok (.iload_n 3, 1) := by decide +kernel
theorem dX8_tray_70 : decode mi_X8_tray.2.1 70 = .ok (.iastore, 1) := by decide +kernel
theorem dX8_tray_71 : decode mi_X8_tray.2.1 71 = .ok (.iconst 0, 1) := by decide +kernel
theorem dX8_tray_72 : decode mi_X8_tray.2.1 72 = .ok (.istore 4, 2) := by decide +kernel
theorem dX8_tray_74 : decode mi_X8_tray.2.1 74 = .ok (.iload 4, 2) := by decide +kernel
theorem dX8_tray_76 : decode mi_X8_tray.2.1 76 = .ok (.iload_n 3, 1) := by decide +kernel
theorem dX8_tray_77 : decode mi_X8_tray.2.1 77 = .ok (.if_icmp .ge 22, 3) := by decide +kernel
theorem dX8_tray_80 : decode mi_X8_tray.2.1 80 = .ok (.aload_n 0, 1) := by decide +kernel
theorem dX8_tray_81 : decode mi_X8_tray.2.1 81 = .ok (.getfield 16, 3) := by decide +kernel
theorem dX8_tray_84 : decode mi_X8_tray.2.1 84 = .ok (.bipush 40, 2) := by decide +kernel
theorem dX8_tray_86 : decode mi_X8_tray.2.1 86 = .ok (.iload_n 1, 1) := by decide +kernel
theorem dX8_tray_87 : decode mi_X8_tray.2.1 87 = .ok (.imul, 1) := by decide +kernel
theorem dX8_tray_88 : decode mi_X8_tray.2.1 88 = .ok (.iload 4, 2) := by decide +kernel
theorem dX8_tray_90 : decode mi_X8_tray.2.1 90 = .ok (.iadd, 1) := by decide +kernel
theorem dX8_tray_91 : decode mi_X8_tray.2.1 91 = .ok (.lconst 0, 1) := by decide +kernel
theorem dX8_tray_92 : decode mi_X8_tray.2.1 92 = .ok (.lastore, 1) := by decide +kernel
theorem dX8_tray_93 : decode mi_X8_tray.2.1 93 = .ok (.iinc 4 1, 3) := by decide +kernel
theorem dX8_tray_96 : decode mi_X8_tray.2.1 96 = .ok (.goto (-22), 3) := by decide +kernel
theorem dX8_tray_99 : decode mi_X8_tray.2.1 99 = .ok (.iconst 1, 1) := by decide +kernel
theorem dX8_tray_100 : decode mi_X8_tray.2.1 100 = .ok (.ireturn, 1) := by decide +kernel
theorem v_X8_tray {G : ma_G} {d : Nat} {a0 : Nat} {x1 : Int32} {x2 : Int32} {x3 : Int32} {h : ah_T} {Q : Option ma_V → ah_T → Prop} {E : Nat → ah_T → Prop} (La0_h : LY8 h a0) (H : ∀ h1 : ah_T, h1 = ah_wI h a0 1 (0 : Int32) → ah_ext h h1 → ∀ h2 : ah_T, h2 = ah_wI h1 a0 0 (0 : Int32) → ah_ext h1 h2 → (x1 < 0 → ∀ h4 : ah_T, h4 = ah_wI h2 a0 0 (1 : Int32) → ah_ext h2 h4 → Q (some (iv (0 : Int32))) h4) ∧ (¬ x1 < 0 → ((4 : Int32) ≤ x1 → ∀ h6 : ah_T, h6 = ah_wI h2 a0 0 (1 : Int32) → ah_ext h2 h6 → Q (some (iv (0 : Int32))) h6) ∧ (¬ (4 : Int32) ≤ x1 → (x2 < 0 → ∀ h8 : ah_T, h8 = ah_wI h2 a0 0 (1 : Int32) → ah_ext h2 h8 → Q (some (iv (0 : Int32))) h8) ∧ (¬ x2 < 0 → (x2 ≤ (3 : Int32) → (x3 ≤ (40 : Int32) → (0 ≤ x3 → vp_in x1 4 ∧ ∀ h13 : ah_T, h13 = ah_wI h2 (a0 + 1) x1.toNatClampNeg x2 → ah_ext h2 h13 → ∀ h14 : ah_T, h14 = ah_wI h13 (a0 + 2) x1.toNatClampNeg x3 → ah_ext h13 h14 → MX G mi_X8_tray (d + 1) 74 [some (rv a0), some (iv x1), none, some (iv x3), some (iv (0 : Int32))] [] h14 Q E) ∧ (¬ 0 ≤ x3 → ∀ h15 : ah_T, h15 = ah_wI h2 a0 0 (6 : Int32) → ah_ext h2 h15 → Q (some (iv (0 : Int32))) h15)) ∧ (¬ x3 ≤ (40 : Int32) → ∀ h16 : ah_T, h16 = ah_wI h2 a0 0 (5 : Int32) → ah_ext h2 h16 → Q (some (iv (0 : Int32))) h16)) ∧ (¬ x2 ≤ (3 : Int32) → ∀ h17 : ah_T, h17 = ah_wI h2 a0 0 (1 : Int32) → ah_ext h2 h17 → Q (some (iv (0 : Int32))) h17))))) : MX G mi_X8_tray (d + 1) 0 [some (rv a0), some (iv x1), some (iv x2), some (iv x3), none] [] h Q E := by
  refine mx_aload_n dX8_tray_0 rfl rfl ?_
  refine mx_iconst dX8_tray_1 ic_0 ?_
  refine mx_putI 8 1 (ref := "PrairiePoolModel") cl_8 (Nat.le_of_ble_eq_true rfl) (Or.inl q1628) (Or.inl rfl) dX8_tray_2 (Or.inl rfl) rfl (ly8_k La0_h) ?_
  refine mx_nmI  (fun h1 eh1 Xh1 Kh1 Lh1 => ?_)
  have H := H h1 eh1 Xh1
  have La0_h1 := La0_h.ext Xh1
  refine mx_aload_n dX8_tray_5 rfl rfl ?_
  refine mx_iconst dX8_tray_6 ic_0 ?_
  refine mx_putI 8 0 (ref := "PrairiePoolModel") cl_8 (Nat.le_of_ble_eq_true rfl) (Or.inl q1627) (Or.inl rfl) dX8_tray_7 (Or.inl rfl) rfl (ly8_k La0_h1) ?_
  refine mx_nmI  (fun h2 eh2 Xh2 Kh2 Lh2 => ?_)
  have H := H h2 eh2 Xh2
  have Kh2 := Kh2.trans Kh1
  have Lh2 := Lh2.trans Lh1
  have La0_h2 := La0_h1.ext Xh2
  refine mx_iload_n dX8_tray_10 rfl rfl ?_
  refine mx_if_lt (tgt := 28) dX8_tray_11 rfl (fun c3 => ?_) (fun c3 => ?_)
  · have H := H.1 c3
    refine mx_aload_n dX8_tray_28 rfl rfl ?_
    refine mx_iconst dX8_tray_29 ic_1 ?_
    refine mx_callV 8 (y' := mi_X8_no) (vs := [iv (1 : Int32)]) (st := []) (al' := [some (rv a0), some (iv (1 : Int32))]) cl_8 V_X8_no (Or.inl q1963) dX8_tray_30 rfl rfl (Nat.le_of_ble_eq_true rfl) (Nat.le_of_ble_eq_true rfl) (ly8_k La0_h2) ?_
    refine mx_aload_n dX8_no_0 rfl rfl ?_
    refine mx_iload_n dX8_no_1 rfl rfl ?_
    refine mx_putI 8 0 (ref := "PrairiePoolModel") cl_8 (Nat.le_of_ble_eq_true rfl) (Or.inl q1627) (Or.inl rfl) dX8_no_2 (Or.inl rfl) rfl (ly8_k La0_h2) ?_
    refine mx_nmI  (fun h4 eh4 Xh4 Kh4 Lh4 => ?_)
    have H := H h4 eh4 Xh4
    have Kh4 := Kh4.trans Kh2
    have Lh4 := Lh4.trans Lh2
    have La0_h4 := La0_h2.ext Xh4
    refine mx_iconst dX8_no_5 ic_0 ?_
    refine mx_zretK rfl dX8_no_6 (Or.inl rfl) ?_
    exact mx_zret rfl dX8_tray_33 (Or.inl rfl) H
  · have H := H.2 c3
    refine mx_iload_n dX8_tray_14 rfl rfl ?_
    refine mx_iconst dX8_tray_15 ic_4 ?_
    refine mx_icmp_ge (tgt := 28) dX8_tray_16 rfl (fun c5 => ?_) (fun c5 => ?_)
    · have H := H.1 c5
      refine mx_aload_n dX8_tray_28 rfl rfl ?_
      refine mx_iconst dX8_tray_29 ic_1 ?_
      refine mx_callV 8 (y' := mi_X8_no) (vs := [iv (1 : Int32)]) (st := []) (al' := [some (rv a0), some (iv (1 : Int32))]) cl_8 V_X8_no (Or.inl q1963) dX8_tray_30 rfl rfl (Nat.le_of_ble_eq_true rfl) (Nat.le_of_ble_eq_true rfl) (ly8_k La0_h2) ?_
      refine mx_aload_n dX8_no_0 rfl rfl ?_
      refine mx_iload_n dX8_no_1 rfl rfl ?_
      refine mx_putI 8 0 (ref := "PrairiePoolModel") cl_8 (Nat.le_of_ble_eq_true rfl) (Or.inl q1627) (Or.inl rfl) dX8_no_2 (Or.inl rfl) rfl (ly8_k La0_h2) ?_
      refine mx_nmI  (fun h6 eh6 Xh6 Kh6 Lh6 => ?_)
      have H := H h6 eh6 Xh6
      have Kh6 := Kh6.trans Kh2
      have Lh6 := Lh6.trans Lh2
      have La0_h6 := La0_h2.ext Xh6
      refine mx_iconst dX8_no_5 ic_0 ?_
      refine mx_zretK rfl dX8_no_6 (Or.inl rfl) ?_
      exact mx_zret rfl dX8_tray_33 (Or.inl rfl) H
    · have H := H.2 c5
      refine mx_iload_n dX8_tray_19 rfl rfl ?_
      refine mx_if_lt (tgt := 28) dX8_tray_20 rfl (fun c7 => ?_) (fun c7 => ?_)
      · have H := H.1 c7
        refine mx_aload_n dX8_tray_28 rfl rfl ?_
        refine mx_iconst dX8_tray_29 ic_1 ?_
        refine mx_callV 8 (y' := mi_X8_no) (vs := [iv (1 : Int32)]) (st := []) (al' := [some (rv a0), some (iv (1 : Int32))]) cl_8 V_X8_no (Or.inl q1963) dX8_tray_30 rfl rfl (Nat.le_of_ble_eq_true rfl) (Nat.le_of_ble_eq_true rfl) (ly8_k La0_h2) ?_
        refine mx_aload_n dX8_no_0 rfl rfl ?_
        refine mx_iload_n dX8_no_1 rfl rfl ?_
        refine mx_putI 8 0 (ref := "PrairiePoolModel") cl_8 (Nat.le_of_ble_eq_true rfl) (Or.inl q1627) (Or.inl rfl) dX8_no_2 (Or.inl rfl) rfl (ly8_k La0_h2) ?_
        refine mx_nmI  (fun h8 eh8 Xh8 Kh8 Lh8 => ?_)
        have H := H h8 eh8 Xh8
        have Kh8 := Kh8.trans Kh2
        have Lh8 := Lh8.trans Lh2
        have La0_h8 := La0_h2.ext Xh8
        refine mx_iconst dX8_no_5 ic_0 ?_
        refine mx_zretK rfl dX8_no_6 (Or.inl rfl) ?_
        exact mx_zret rfl dX8_tray_33 (Or.inl rfl) H
      · have H := H.2 c7
        refine mx_iload_n dX8_tray_23 rfl rfl ?_
        refine mx_iconst dX8_tray_24 ic_3 ?_
        refine mx_icmp_le (tgt := 34) dX8_tray_25 rfl (fun c9 => ?_) (fun c9 => ?_)
        · have H := H.1 c9
          refine mx_iload_n dX8_tray_34 rfl rfl ?_
          refine mx_bipush dX8_tray_35 ib_40 ?_
          refine mx_icmp_le (tgt := 46) dX8_tray_37 rfl (fun c10 => ?_) (fun c10 => ?_)
          · have H := H.1 c10
            refine mx_iload_n dX8_tray_46 rfl rfl ?_
            refine mx_if_ge (tgt := 57) dX8_tray_47 rfl (fun c11 => ?_) (fun c11 => ?_)
            · have H := H.1 c11
              refine mx_aload_n dX8_tray_57 rfl rfl ?_
              refine mx_get 8 2 (ref := "PrairiePoolModel") cl_8 (Nat.le_of_ble_eq_true rfl) (Or.inl q1629) (Or.inl rfl) dX8_tray_58 (fv_8_2 _ _) (ly8_k La0_h2) ?_
              refine mx_tr (ly8_R_0_2 La0_h2) ?_
              refine mx_iload_n dX8_tray_61 rfl rfl ?_
              refine mx_iload_n dX8_tray_62 rfl rfl ?_
              obtain ⟨k12, H⟩ := H
              refine my_iast dX8_tray_63 rfl (ly8_A_1 La0_h2 k12) ?_
              refine mx_nmI  (fun h13 eh13 Xh13 Kh13 Lh13 => ?_)
              have H := H h13 eh13 Xh13
              have Kh13 := Kh13.trans Kh2
              have Lh13 := Lh13.trans Lh2
              have La0_h13 := La0_h2.ext Xh13
              refine mx_aload_n dX8_tray_64 rfl rfl ?_
              refine mx_get 8 3 (ref := "PrairiePoolModel") cl_8 (Nat.le_of_ble_eq_true rfl) (Or.inl q1630) (Or.inl rfl) dX8_tray_65 (fv_8_3 _ _) (ly8_k La0_h13) ?_
              refine mx_tr (ly8_R_0_3 La0_h13) ?_
              refine mx_iload_n dX8_tray_68 rfl rfl ?_
              refine mx_iload_n dX8_tray_69 rfl rfl ?_
              refine my_iast dX8_tray_70 rfl (ly8_A_2 La0_h13 k12) ?_
              refine mx_nmI  (fun h14 eh14 Xh14 Kh14 Lh14 => ?_)
              have H := H h14 eh14 Xh14
              have Kh14 := Kh14.trans Kh13
              have Lh14 := Lh14.trans Lh13
              have La0_h14 := La0_h13.ext Xh14
              refine mx_iconst dX8_tray_71 ic_0 ?_
              refine mx_istore (al' := [some (rv a0), some (iv x1), some (iv x2), some (iv x3), some (iv (0 : Int32))]) dX8_tray_72 (Nat.le_of_ble_eq_true rfl) rfl ?_
              exact mx_weak (al' := [some (rv a0), some (iv x1), none, some (iv x3), some (iv (0 : Int32))]) ⟨rfl, ⟨rfl, ⟨rfl, ⟨rfl, trivial⟩⟩⟩⟩ H
            · have H := H.2 c11
              refine mx_aload_n dX8_tray_50 rfl rfl ?_
              refine mx_bipush dX8_tray_51 ib_6 ?_
              refine mx_callV 8 (y' := mi_X8_no) (vs := [iv (6 : Int32)]) (st := []) (al' := [some (rv a0), some (iv (6 : Int32))]) cl_8 V_X8_no (Or.inl q1963) dX8_tray_53 rfl rfl (Nat.le_of_ble_eq_true rfl) (Nat.le_of_ble_eq_true rfl) (ly8_k La0_h2) ?_
              refine mx_aload_n dX8_no_0 rfl rfl ?_
              refine mx_iload_n dX8_no_1 rfl rfl ?_
              refine mx_putI 8 0 (ref := "PrairiePoolModel") cl_8 (Nat.le_of_ble_eq_true rfl) (Or.inl q1627) (Or.inl rfl) dX8_no_2 (Or.inl rfl) rfl (ly8_k La0_h2) ?_
              refine mx_nmI  (fun h15 eh15 Xh15 Kh15 Lh15 => ?_)
              have H := H h15 eh15 Xh15
              have Kh15 := Kh15.trans Kh2
              have Lh15 := Lh15.trans Lh2
              have La0_h15 := La0_h2.ext Xh15
              refine mx_iconst dX8_no_5 ic_0 ?_
              refine mx_zretK rfl dX8_no_6 (Or.inl rfl) ?_
              exact mx_zret rfl dX8_tray_56 (Or.inl rfl) H
          · have H := H.2 c10
            refine mx_aload_n dX8_tray_40 rfl rfl ?_
            refine mx_iconst dX8_tray_41 ic_5 ?_
            refine mx_callV 8 (y' := mi_X8_no) (vs := [iv (5 : Int32)]) (st := []) (al' := [some (rv a0), some (iv (5 : Int32))]) cl_8 V_X8_no (Or.inl q1963) dX8_tray_42 rfl rfl (Nat.le_of_ble_eq_true rfl) (Nat.le_of_ble_eq_true rfl) (ly8_k La0_h2) ?_
            refine mx_aload_n dX8_no_0 rfl rfl ?_
            refine mx_iload_n dX8_no_1 rfl rfl ?_
            refine mx_putI 8 0 (ref := "PrairiePoolModel") cl_8 (Nat.le_of_ble_eq_true rfl) (Or.inl q1627) (Or.inl rfl) dX8_no_2 (Or.inl rfl) rfl (ly8_k La0_h2) ?_
            refine mx_nmI  (fun h16 eh16 Xh16 Kh16 Lh16 => ?_)
            have H := H h16 eh16 Xh16
            have Kh16 := Kh16.trans Kh2
            have Lh16 := Lh16.trans Lh2
            have La0_h16 := La0_h2.ext Xh16
            refine mx_iconst dX8_no_5 ic_0 ?_
            refine mx_zretK rfl dX8_no_6 (Or.inl rfl) ?_
            exact mx_zret rfl dX8_tray_45 (Or.inl rfl) H
        · have H := H.2 c9
          refine mx_aload_n dX8_tray_28 rfl rfl ?_
          refine mx_iconst dX8_tray_29 ic_1 ?_
          refine mx_callV 8 (y' := mi_X8_no) (vs := [iv (1 : Int32)]) (st := []) (al' := [some (rv a0), some (iv (1 : Int32))]) cl_8 V_X8_no (Or.inl q1963) dX8_tray_30 rfl rfl (Nat.le_of_ble_eq_true rfl) (Nat.le_of_ble_eq_true rfl) (ly8_k La0_h2) ?_
          refine mx_aload_n dX8_no_0 rfl rfl ?_
          refine mx_iload_n dX8_no_1 rfl rfl ?_
          refine mx_putI 8 0 (ref := "PrairiePoolModel") cl_8 (Nat.le_of_ble_eq_true rfl) (Or.inl q1627) (Or.inl rfl) dX8_no_2 (Or.inl rfl) rfl (ly8_k La0_h2) ?_
          refine mx_nmI  (fun h17 eh17 Xh17 Kh17 Lh17 => ?_)
          have H := H h17 eh17 Xh17
          have Kh17 := Kh17.trans Kh2
          have Lh17 := Lh17.trans Lh2
          have La0_h17 := La0_h2.ext Xh17
          refine mx_iconst dX8_no_5 ic_0 ?_
          refine mx_zretK rfl dX8_no_6 (Or.inl rfl) ?_
          exact mx_zret rfl dX8_tray_33 (Or.inl rfl) H
theorem v_X8_tray_74 {G : ma_G} {d : Nat} {a0 : Nat} {x1 : Int32} {x3 : Int32} {x4 : Int32} {h : ah_T} {Q : Option ma_V → ah_T → Prop} {E : Nat → ah_T → Prop} (La0_h : LY8 h a0) (H : (x3 ≤ x4 → Q (some (iv (1 : Int32))) h) ∧ (¬ x3 ≤ x4 → vp_in (((40 : Int32) * x1) + x4) 160 ∧ ∀ h3 : ah_T, h3 = ah_wJ h (a0 + 3) (((40 : Int32) * x1) + x4).toNatClampNeg (0 : Int64) → ah_ext h h3 → MX G mi_X8_tray (d + 1) 74 [some (rv a0), some (iv x1), none, some (iv x3), some (iv (x4 + (1 : Int32)))] [] h3 Q E)) : MX G mi_X8_tray (d + 1) 74 [some (rv a0), some (iv x1), none, some (iv x3), some (iv x4)] [] h Q E := by
  refine mx_iload dX8_tray_74 rfl ?_
  refine mx_iload_n dX8_tray_76 rfl rfl ?_
  refine mx_icmp_ge (tgt := 99) dX8_tray_77 rfl (fun c1 => ?_) (fun c1 => ?_)
  · have H := H.1 c1
    refine mx_iconst dX8_tray_99 ic_1 ?_
    exact mx_zret rfl dX8_tray_100 (Or.inr rfl) H
  · have H := H.2 c1
    refine mx_aload_n dX8_tray_80 rfl rfl ?_
    refine mx_get 8 4 (ref := "PrairiePoolModel") cl_8 (Nat.le_of_ble_eq_true rfl) (Or.inl q1631) (Or.inl rfl) dX8_tray_81 (fv_8_4 _ _) (ly8_k La0_h) ?_
    refine mx_tr (ly8_R_0_4 La0_h) ?_
    refine mx_bipush dX8_tray_84 ib_40 ?_
    refine mx_iload_n dX8_tray_86 rfl rfl ?_
    refine mx_imul dX8_tray_87 ?_
    refine mx_iload dX8_tray_88 rfl ?_
    refine mx_iadd dX8_tray_90 ?_
    refine mx_lconst dX8_tray_91 lc_0 ?_
    obtain ⟨k2, H⟩ := H
    refine my_last dX8_tray_92 rfl (ly8_A_3 La0_h k2) ?_
    refine mx_nmJ  (fun h3 eh3 Xh3 Kh3 Lh3 => ?_)
    have H := H h3 eh3 Xh3
    have La0_h3 := La0_h.ext Xh3
    refine mx_iinc (al' := [some (rv a0), some (iv x1), none, some (iv x3), some (iv (x4 + (1 : Int32)))]) dX8_tray_93 rfl ic_1 rfl ?_
    refine mx_goto (tgt := 74) dX8_tray_96 rfl ?_
    exact mx_weak (al' := [some (rv a0), some (iv x1), none, some (iv x3), some (iv (x4 + (1 : Int32)))]) ⟨rfl, ⟨rfl, ⟨rfl, ⟨rfl, trivial⟩⟩⟩⟩ H
theorem v_X8_no {G : ma_G} {d : Nat} {a0 : Nat} {x1 : Int32} {h : ah_T} {Q : Option ma_V → ah_T → Prop} {E : Nat → ah_T → Prop} (La0_h : LY8 h a0) (H : ∀ h1 : ah_T, h1 = ah_wI h a0 0 x1 → ah_ext h h1 → Q (some (iv (0 : Int32))) h1) : MX G mi_X8_no d 0 [some (rv a0), some (iv x1)] [] h Q E := by
  refine mx_aload_n dX8_no_0 rfl rfl ?_
  refine mx_iload_n dX8_no_1 rfl rfl ?_
  refine mx_putI 8 0 (ref := "PrairiePoolModel") cl_8 (Nat.le_of_ble_eq_true rfl) (Or.inl q1627) (Or.inl rfl) dX8_no_2 (Or.inl rfl) rfl (ly8_k La0_h) ?_
  refine mx_nmI  (fun h1 eh1 Xh1 Kh1 Lh1 => ?_)
  have H := H h1 eh1 Xh1
  have La0_h1 := La0_h.ext Xh1
  refine mx_iconst dX8_no_5 ic_0 ?_
  exact mx_zret rfl dX8_no_6 (Or.inl rfl) H
theorem dX8_write_0 : decode mi_X8_write.2.1 0 = .ok (.aload_n 0, 1) := by decide +kernel
theorem dX8_write_1 : decode mi_X8_write.2.1 1 = .ok (.iconst 0, 1) := by decide +kernel
theorem dX8_write_2 : decode mi_X8_write.2.1 2 = .ok (.putfield 257, 3) := by decide +kernel
theorem dX8_write_5 : decode mi_X8_write.2.1 5 = .ok (.aload_n 0, 1) := by decide +kernel
theorem dX8_write_6 : decode mi_X8_write.2.1 6 = .ok (.aload_n 0, 1) := by decide +kernel
theorem dX8_write_7 : decode mi_X8_write.2.1 7 = .ok (.iload_n 1, 1) := by decide +kernel
theorem dX8_write_8 : decode mi_X8_write.2.1 8 = .ok (.iload_n 2, 1) := by decide +kernel
theorem dX8_write_9 : decode mi_X8_write.2.1 9 = .ok (.invokevirtual 281, 3) := by decide +kernel
theorem dX8_write_12 : decode mi_X8_write.2.1 12 = .ok (.putfield 260, 3) := by decide +kernel
theorem dX8_write_15 : decode mi_X8_write.2.1 15 = .ok (.aload_n 0, 1) := by decide +kernel
theorem dX8_write_16 : decode mi_X8_write.2.1 16 = .ok (.getfield 260, 3) := by decide +kernel
theorem dX8_write_19 : decode mi_X8_write.2.1 19 = .ok (.ifCond .le 5, 3) := by decide +kernel
theorem dX8_write_22 : decode mi_X8_write.2.1 22 = .ok (.iconst 0, 1) := by decide +kernel
theorem dX8_write_23 : decode mi_X8_write.2.1 23 = .ok (.ireturn, 1) := by decide +kernel
theorem dX8_write_24 : decode mi_X8_write.2.1 24 = .ok (.aload_n 0, 1) := by decide +kernel
theorem dX8_write_25 : decode mi_X8_write.2.1 25 = .ok (.getfield 16, 3) := by decide +kernel
theorem dX8_write_28 : decode mi_X8_write.2.1 28 = .ok (.bipush 40, 2) := by decide +kernel
theorem dX8_write_30 : decode mi_X8_write.2.1 30 = .ok (.iload_n 1, 1) := by decide +kernel
theorem dX8_write_31 : decode mi_X8_write.2.1 31 = .ok (.imul, 1) := by decide +kernel
theorem dX8_write_32 : decode mi_X8_write.2.1 32 = .ok (.iload_n 2, 1) := by decide +kernel
theorem dX8_write_33 : decode mi_X8_write.2.1 33 = .ok (.iadd, 1) := by decide +kernel
theorem dX8_write_34 : decode mi_X8_write.2.1 34 = .ok (.aload_n 0, 1) := by decide +kernel
theorem dX8_write_35 : decode mi_X8_write.2.1 35 = .ok (.getfield 7, 3) := by decide +kernel
theorem dX8_write_38 : decode mi_X8_write.2.1 38 = .ok (.iload_n 1, 1) := by decide +kernel
theorem dX8_write_39 : decode mi_X8_write.2.1 39 = .ok (.iaload, 1) := by decide +kernel
theorem dX8_write_40 : decode mi_X8_write.2.1 40 = .ok (.lload_n 3, 1) := by decide +kernel
theorem dX8_write_41 : decode mi_X8_write.2.1 41 = .ok (.invokestatic 285, 3) := by decide +kernel
theorem dX8_write_44 : decode mi_X8_write.2.1 44 = .ok (.lastore, 1) := by decide +kernel
theorem dX8_write_45 : decode mi_X8_write.2.1 45 = .ok (.iconst 1, 1) := by decide +kernel
theorem dX8_write_46 : decode mi_X8_write.2.1 46 = .ok (.ireturn, 1) := by decide +kernel
theorem v_X8_write {G : ma_G} {d : Nat} {a0 : Nat} {x1 : Int32} {x2 : Int32} {x3 : Int64} {h : ah_T} {Q : Option ma_V → ah_T → Prop} {E : Nat → ah_T → Prop} (La0_h : LY8 h a0) (H : ∀ h1 : ah_T, h1 = ah_wI h a0 1 (0 : Int32) → ah_ext h h1 → (x1 < 0 → ∀ h3 : ah_T, h3 = ah_wI h1 a0 0 (1 : Int32) → ah_ext h1 h3 → Q (some (iv (0 : Int32))) h3) ∧ (¬ x1 < 0 → (x1 < (4 : Int32) → vp_in x1 4 ∧ (0 ≤ (ah_I h (a0 + 2) x1.toNatClampNeg) → (x2 < 0 → ∀ h8 : ah_T, h8 = ah_wI h1 a0 0 (4 : Int32) → ah_ext h1 h8 → Q (some (iv (0 : Int32))) h8) ∧ (¬ x2 < 0 → (x2 < (ah_I h (a0 + 2) x1.toNatClampNeg) → ∀ h10 : ah_T, h10 = ah_wI h1 a0 0 (0 : Int32) → ah_ext h1 h10 → vp_in (((40 : Int32) * x1) + x2) 160 ∧ ∀ h12 : ah_T, h12 = ah_wJ h10 (a0 + 3) (((40 : Int32) * x1) + x2).toNatClampNeg (sCut (ah_I h (a0 + 1) x1.toNatClampNeg) x3) → ah_ext h10 h12 → Q (some (iv (1 : Int32))) h12) ∧ (¬ x2 < (ah_I h (a0 + 2) x1.toNatClampNeg) → ∀ h13 : ah_T, h13 = ah_wI h1 a0 0 (4 : Int32) → ah_ext h1 h13 → Q (some (iv (0 : Int32))) h13))) ∧ (¬ 0 ≤ (ah_I h (a0 + 2) x1.toNatClampNeg) → ∀ h14 : ah_T, h14 = ah_wI h1 a0 0 (3 : Int32) → ah_ext h1 h14 → Q (some (iv (0 : Int32))) h14)) ∧ (¬ x1 < (4 : Int32) → ∀ h15 : ah_T, h15 = ah_wI h1 a0 0 (1 : Int32) → ah_ext h1 h15 → Q (some (iv (0 : Int32))) h15))) : MX G mi_X8_write (d + 2) 0 [some (rv a0), some (iv x1), some (iv x2), some (jv x3), none] [] h Q E := by
  refine mx_aload_n dX8_write_0 rfl rfl ?_
  refine mx_iconst dX8_write_1 ic_0 ?_
  refine mx_putI 8 1 (ref := "PrairiePoolModel") cl_8 (Nat.le_of_ble_eq_true rfl) (Or.inl q1628) (Or.inl rfl) dX8_write_2 (Or.inl rfl) rfl (ly8_k La0_h) ?_
  refine mx_nmI  (fun h1 eh1 Xh1 Kh1 Lh1 => ?_)
  have H := H h1 eh1 Xh1
  have La0_h1 := La0_h.ext Xh1
  refine mx_aload_n dX8_write_5 rfl rfl ?_
  refine mx_aload_n dX8_write_6 rfl rfl ?_
  refine mx_iload_n dX8_write_7 rfl rfl ?_
  refine mx_iload_n dX8_write_8 rfl rfl ?_
  refine mx_callV 8 (y' := mi_X8_placed) (vs := [iv x1, iv x2]) (st := [rv a0]) (al' := [some (rv a0), some (iv x1), some (iv x2), none]) cl_8 V_X8_placed (Or.inl q1971) dX8_write_9 rfl rfl (Nat.le_of_ble_eq_true rfl) (Nat.le_of_ble_eq_true rfl) (ly8_k La0_h1) ?_
  refine mx_aload_n dX8_placed_0 rfl rfl ?_
  refine mx_iload_n dX8_placed_1 rfl rfl ?_
  refine mx_callV 8 (y' := mi_X8_trayed) (vs := [iv x1]) (st := []) (al' := [some (rv a0), some (iv x1)]) cl_8 V_X8_trayed (Or.inl q1975) dX8_placed_2 rfl rfl (Nat.le_of_ble_eq_true rfl) (Nat.le_of_ble_eq_true rfl) (ly8_k La0_h1) ?_
  refine mx_iload_n dX8_trayed_0 rfl rfl ?_
  refine mx_if_lt (tgt := 9) dX8_trayed_1 rfl (fun c2 => ?_) (fun c2 => ?_)
  · have H := H.1 c2
    refine mx_iconst dX8_trayed_9 ic_1 ?_
    refine mx_goto (tgt := 27) dX8_trayed_10 rfl ?_
    refine mx_iretK rfl dX8_trayed_27 ?_
    refine mx_istore_n (al' := [some (rv a0), some (iv x1), some (iv x2), some (iv (1 : Int32))]) dX8_placed_5 rfl (Nat.le_of_ble_eq_true rfl) rfl ?_
    refine mx_iload_n dX8_placed_6 rfl rfl ?_
    refine mx_if_le (tgt := 14) dX8_placed_7 rfl (fun _ => absurd ‹_› (by decide)) (fun _ => ?_)
    refine mx_iload_n dX8_placed_10 rfl rfl ?_
    refine mx_goto (tgt := 33) dX8_placed_11 rfl ?_
    refine mx_iretK rfl dX8_placed_33 ?_
    refine mx_putI 8 0 (ref := "PrairiePoolModel") cl_8 (Nat.le_of_ble_eq_true rfl) (Or.inl q1627) (Or.inl rfl) dX8_write_12 (Or.inl rfl) rfl (ly8_k La0_h1) ?_
    refine mx_nmI  (fun h3 eh3 Xh3 Kh3 Lh3 => ?_)
    have H := H h3 eh3 Xh3
    have Kh3 := Kh3.trans Kh1
    have Lh3 := Lh3.trans Lh1
    have La0_h3 := La0_h1.ext Xh3
    refine mx_aload_n dX8_write_15 rfl rfl ?_
    refine mx_get 8 0 (ref := "PrairiePoolModel") cl_8 (Nat.le_of_ble_eq_true rfl) (Or.inl q1627) (Or.inl rfl) dX8_write_16 (fv_8_0 _ _) (ly8_k La0_h3) ?_
    refine mx_ti (ah_hitI eh3) ?_
    refine mx_if_le (tgt := 24) dX8_write_19 rfl (fun _ => absurd ‹_› (by decide)) (fun _ => ?_)
    refine mx_iconst dX8_write_22 ic_0 ?_
    exact mx_zret rfl dX8_write_23 (Or.inl rfl) H
  · have H := H.2 c2
    refine mx_iload_n dX8_trayed_4 rfl rfl ?_
    refine mx_iconst dX8_trayed_5 ic_4 ?_
    refine mx_icmp_lt (tgt := 13) dX8_trayed_6 rfl (fun c4 => ?_) (fun c4 => ?_)
    · have H := H.1 c4
      refine mx_aload_n dX8_trayed_13 rfl rfl ?_
      refine mx_get 8 3 (ref := "PrairiePoolModel") cl_8 (Nat.le_of_ble_eq_true rfl) (Or.inl q1630) (Or.inl rfl) dX8_trayed_14 (fv_8_3 _ _) (ly8_k La0_h1) ?_
      refine mx_tr (ly8_R_0_3 La0_h1) ?_
      refine mx_iload_n dX8_trayed_17 rfl rfl ?_
      obtain ⟨k5, H⟩ := H
      refine my_iald dX8_trayed_18 rfl (ly8_A_2 La0_h1 k5) ?_
      refine mx_ti (ah_skIA eh1 (by omega)) ?_
      refine mx_if_ge (tgt := 26) dX8_trayed_19 rfl (fun c6 => ?_) (fun c6 => ?_)
      · have H := H.1 c6
        refine mx_iconst dX8_trayed_26 ic_0 ?_
        refine mx_iretK rfl dX8_trayed_27 ?_
        refine mx_istore_n (al' := [some (rv a0), some (iv x1), some (iv x2), some (iv (0 : Int32))]) dX8_placed_5 rfl (Nat.le_of_ble_eq_true rfl) rfl ?_
        refine mx_iload_n dX8_placed_6 rfl rfl ?_
        refine mx_if_le (tgt := 14) dX8_placed_7 rfl (fun _ => ?_) (fun _ => absurd ‹_› (by decide))
        refine mx_iload_n dX8_placed_14 rfl rfl ?_
        refine mx_if_lt (tgt := 28) dX8_placed_15 rfl (fun c7 => ?_) (fun c7 => ?_)
        · have H := H.1 c7
          refine mx_iconst dX8_placed_28 ic_4 ?_
          refine mx_goto (tgt := 33) dX8_placed_29 rfl ?_
          refine mx_iretK rfl dX8_placed_33 ?_
          refine mx_putI 8 0 (ref := "PrairiePoolModel") cl_8 (Nat.le_of_ble_eq_true rfl) (Or.inl q1627) (Or.inl rfl) dX8_write_12 (Or.inl rfl) rfl (ly8_k La0_h1) ?_
          refine mx_nmI  (fun h8 eh8 Xh8 Kh8 Lh8 => ?_)
          have H := H h8 eh8 Xh8
          have Kh8 := Kh8.trans Kh1
          have Lh8 := Lh8.trans Lh1
          have La0_h8 := La0_h1.ext Xh8
          refine mx_aload_n dX8_write_15 rfl rfl ?_
          refine mx_get 8 0 (ref := "PrairiePoolModel") cl_8 (Nat.le_of_ble_eq_true rfl) (Or.inl q1627) (Or.inl rfl) dX8_write_16 (fv_8_0 _ _) (ly8_k La0_h8) ?_
          refine mx_ti (ah_hitI eh8) ?_
          refine mx_if_le (tgt := 24) dX8_write_19 rfl (fun _ => absurd ‹_› (by decide)) (fun _ => ?_)
          refine mx_iconst dX8_write_22 ic_0 ?_
          exact mx_zret rfl dX8_write_23 (Or.inl rfl) H
        · have H := H.2 c7
          refine mx_iload_n dX8_placed_18 rfl rfl ?_
          refine mx_aload_n dX8_placed_19 rfl rfl ?_
          refine mx_get 8 3 (ref := "PrairiePoolModel") cl_8 (Nat.le_of_ble_eq_true rfl) (Or.inl q1630) (Or.inl rfl) dX8_placed_20 (fv_8_3 _ _) (ly8_k La0_h1) ?_
          refine mx_tr (ly8_R_0_3 La0_h1) ?_
          refine mx_iload_n dX8_placed_23 rfl rfl ?_
          refine my_iald dX8_placed_24 rfl (ly8_A_2 La0_h1 k5) ?_
          refine mx_ti (ah_skIA eh1 (by omega)) ?_
          refine mx_icmp_lt (tgt := 32) dX8_placed_25 rfl (fun c9 => ?_) (fun c9 => ?_)
          · have H := H.1 c9
            refine mx_iconst dX8_placed_32 ic_0 ?_
            refine mx_iretK rfl dX8_placed_33 ?_
            refine mx_putI 8 0 (ref := "PrairiePoolModel") cl_8 (Nat.le_of_ble_eq_true rfl) (Or.inl q1627) (Or.inl rfl) dX8_write_12 (Or.inl rfl) rfl (ly8_k La0_h1) ?_
            refine mx_nmI  (fun h10 eh10 Xh10 Kh10 Lh10 => ?_)
            have H := H h10 eh10 Xh10
            have Kh10 := Kh10.trans Kh1
            have Lh10 := Lh10.trans Lh1
            have La0_h10 := La0_h1.ext Xh10
            refine mx_aload_n dX8_write_15 rfl rfl ?_
            refine mx_get 8 0 (ref := "PrairiePoolModel") cl_8 (Nat.le_of_ble_eq_true rfl) (Or.inl q1627) (Or.inl rfl) dX8_write_16 (fv_8_0 _ _) (ly8_k La0_h10) ?_
            refine mx_ti (ah_hitI eh10) ?_
            refine mx_if_le (tgt := 24) dX8_write_19 rfl (fun _ => ?_) (fun _ => absurd ‹_› (by decide))
            refine mx_aload_n dX8_write_24 rfl rfl ?_
            refine mx_get 8 4 (ref := "PrairiePoolModel") cl_8 (Nat.le_of_ble_eq_true rfl) (Or.inl q1631) (Or.inl rfl) dX8_write_25 (fv_8_4 _ _) (ly8_k La0_h10) ?_
            refine mx_tr (ly8_R_0_4 La0_h10) ?_
            refine mx_bipush dX8_write_28 ib_40 ?_
            refine mx_iload_n dX8_write_30 rfl rfl ?_
            refine mx_imul dX8_write_31 ?_
            refine mx_iload_n dX8_write_32 rfl rfl ?_
            refine mx_iadd dX8_write_33 ?_
            refine mx_aload_n dX8_write_34 rfl rfl ?_
            refine mx_get 8 2 (ref := "PrairiePoolModel") cl_8 (Nat.le_of_ble_eq_true rfl) (Or.inl q1629) (Or.inl rfl) dX8_write_35 (fv_8_2 _ _) (ly8_k La0_h10) ?_
            refine mx_tr (ly8_R_0_2 La0_h10) ?_
            refine mx_iload_n dX8_write_38 rfl rfl ?_
            refine my_iald dX8_write_39 rfl (ly8_A_1 La0_h10 k5) ?_
            refine mx_ti ((ah_skIA eh10 (by omega)).trans (ah_skIA eh1 (by omega))) ?_
            refine mx_lload_n dX8_write_40 rfl rfl ?_
            refine mx_callS (y' := mi_X8_cut) (vs := [iv (ah_I h (a0 + 1) x1.toNatClampNeg), jv x3]) (st := [iv (((40 : Int32) * x1) + x2), rv (a0 + 3)]) (al' := [some (iv (ah_I h (a0 + 1) x1.toNatClampNeg)), some (jv x3), none]) S_X8_cut q1979 dX8_write_41 rfl rfl (Nat.le_of_ble_eq_true rfl) (Nat.le_of_ble_eq_true rfl) ?_
            refine pv_X8_cut ?_
            obtain ⟨k11, H⟩ := H
            refine my_last dX8_write_44 rfl (ly8_A_3 La0_h10 k11) ?_
            refine mx_nmJ  (fun h12 eh12 Xh12 Kh12 Lh12 => ?_)
            have H := H h12 eh12 Xh12
            have Kh12 := Kh12.trans Kh10
            have Lh12 := Lh12.trans Lh10
            have La0_h12 := La0_h10.ext Xh12
            refine mx_iconst dX8_write_45 ic_1 ?_
            exact mx_zret rfl dX8_write_46 (Or.inr rfl) H
          · have H := H.2 c9
            refine mx_iconst dX8_placed_28 ic_4 ?_
            refine mx_goto (tgt := 33) dX8_placed_29 rfl ?_
            refine mx_iretK rfl dX8_placed_33 ?_
            refine mx_putI 8 0 (ref := "PrairiePoolModel") cl_8 (Nat.le_of_ble_eq_true rfl) (Or.inl q1627) (Or.inl rfl) dX8_write_12 (Or.inl rfl) rfl (ly8_k La0_h1) ?_
            refine mx_nmI  (fun h13 eh13 Xh13 Kh13 Lh13 => ?_)
            have H := H h13 eh13 Xh13
            have Kh13 := Kh13.trans Kh1
            have Lh13 := Lh13.trans Lh1
            have La0_h13 := La0_h1.ext Xh13
            refine mx_aload_n dX8_write_15 rfl rfl ?_
            refine mx_get 8 0 (ref := "PrairiePoolModel") cl_8 (Nat.le_of_ble_eq_true rfl) (Or.inl q1627) (Or.inl rfl) dX8_write_16 (fv_8_0 _ _) (ly8_k La0_h13) ?_
            refine mx_ti (ah_hitI eh13) ?_
            refine mx_if_le (tgt := 24) dX8_write_19 rfl (fun _ => absurd ‹_› (by decide)) (fun _ => ?_)
            refine mx_iconst dX8_write_22 ic_0 ?_
            exact mx_zret rfl dX8_write_23 (Or.inl rfl) H
      · have H := H.2 c6
        refine mx_iconst dX8_trayed_22 ic_3 ?_
        refine mx_goto (tgt := 27) dX8_trayed_23 rfl ?_
        refine mx_iretK rfl dX8_trayed_27 ?_
        refine mx_istore_n (al' := [some (rv a0), some (iv x1), some (iv x2), some (iv (3 : Int32))]) dX8_placed_5 rfl (Nat.le_of_ble_eq_true rfl) rfl ?_
        refine mx_iload_n dX8_placed_6 rfl rfl ?_
        refine mx_if_le (tgt := 14) dX8_placed_7 rfl (fun _ => absurd ‹_› (by decide)) (fun _ => ?_)
        refine mx_iload_n dX8_placed_10 rfl rfl ?_
        refine mx_goto (tgt := 33) dX8_placed_11 rfl ?_
        refine mx_iretK rfl dX8_placed_33 ?_
        refine mx_putI 8 0 (ref := "PrairiePoolModel") cl_8 (Nat.le_of_ble_eq_true rfl) (Or.inl q1627) (Or.inl rfl) dX8_write_12 (Or.inl rfl) rfl (ly8_k La0_h1) ?_
        refine mx_nmI  (fun h14 eh14 Xh14 Kh14 Lh14 => ?_)
        have H := H h14 eh14 Xh14
        have Kh14 := Kh14.trans Kh1
        have Lh14 := Lh14.trans Lh1
        have La0_h14 := La0_h1.ext Xh14
        refine mx_aload_n dX8_write_15 rfl rfl ?_
        refine mx_get 8 0 (ref := "PrairiePoolModel") cl_8 (Nat.le_of_ble_eq_true rfl) (Or.inl q1627) (Or.inl rfl) dX8_write_16 (fv_8_0 _ _) (ly8_k La0_h14) ?_
        refine mx_ti (ah_hitI eh14) ?_
        refine mx_if_le (tgt := 24) dX8_write_19 rfl (fun _ => absurd ‹_› (by decide)) (fun _ => ?_)
        refine mx_iconst dX8_write_22 ic_0 ?_
        exact mx_zret rfl dX8_write_23 (Or.inl rfl) H
    · have H := H.2 c4
      refine mx_iconst dX8_trayed_9 ic_1 ?_
      refine mx_goto (tgt := 27) dX8_trayed_10 rfl ?_
      refine mx_iretK rfl dX8_trayed_27 ?_
      refine mx_istore_n (al' := [some (rv a0), some (iv x1), some (iv x2), some (iv (1 : Int32))]) dX8_placed_5 rfl (Nat.le_of_ble_eq_true rfl) rfl ?_
      refine mx_iload_n dX8_placed_6 rfl rfl ?_
      refine mx_if_le (tgt := 14) dX8_placed_7 rfl (fun _ => absurd ‹_› (by decide)) (fun _ => ?_)
      refine mx_iload_n dX8_placed_10 rfl rfl ?_
      refine mx_goto (tgt := 33) dX8_placed_11 rfl ?_
      refine mx_iretK rfl dX8_placed_33 ?_
      refine mx_putI 8 0 (ref := "PrairiePoolModel") cl_8 (Nat.le_of_ble_eq_true rfl) (Or.inl q1627) (Or.inl rfl) dX8_write_12 (Or.inl rfl) rfl (ly8_k La0_h1) ?_
      refine mx_nmI  (fun h15 eh15 Xh15 Kh15 Lh15 => ?_)
      have H := H h15 eh15 Xh15
      have Kh15 := Kh15.trans Kh1
      have Lh15 := Lh15.trans Lh1
      have La0_h15 := La0_h1.ext Xh15
      refine mx_aload_n dX8_write_15 rfl rfl ?_
      refine mx_get 8 0 (ref := "PrairiePoolModel") cl_8 (Nat.le_of_ble_eq_true rfl) (Or.inl q1627) (Or.inl rfl) dX8_write_16 (fv_8_0 _ _) (ly8_k La0_h15) ?_
      refine mx_ti (ah_hitI eh15) ?_
      refine mx_if_le (tgt := 24) dX8_write_19 rfl (fun _ => absurd ‹_› (by decide)) (fun _ => ?_)
      refine mx_iconst dX8_write_22 ic_0 ?_
      exact mx_zret rfl dX8_write_23 (Or.inl rfl) H
theorem v_X8_placed {G : ma_G} {d : Nat} {a0 : Nat} {x1 : Int32} {x2 : Int32} {h : ah_T} {Q : Option ma_V → ah_T → Prop} {E : Nat → ah_T → Prop} (La0_h : LY8 h a0) (H : (x1 < 0 → Q (some (iv (1 : Int32))) h) ∧ (¬ x1 < 0 → (x1 < (4 : Int32) → vp_in x1 4 ∧ (0 ≤ (ah_I h (a0 + 2) x1.toNatClampNeg) → (x2 < 0 → Q (some (iv (4 : Int32))) h) ∧ (¬ x2 < 0 → (x2 < (ah_I h (a0 + 2) x1.toNatClampNeg) → Q (some (iv (0 : Int32))) h) ∧ (¬ x2 < (ah_I h (a0 + 2) x1.toNatClampNeg) → Q (some (iv (4 : Int32))) h))) ∧ (¬ 0 ≤ (ah_I h (a0 + 2) x1.toNatClampNeg) → Q (some (iv (3 : Int32))) h)) ∧ (¬ x1 < (4 : Int32) → Q (some (iv (1 : Int32))) h))) : MX G mi_X8_placed (d + 1) 0 [some (rv a0), some (iv x1), some (iv x2), none] [] h Q E := by
  refine mx_aload_n dX8_placed_0 rfl rfl ?_
  refine mx_iload_n dX8_placed_1 rfl rfl ?_
  refine mx_callV 8 (y' := mi_X8_trayed) (vs := [iv x1]) (st := []) (al' := [some (rv a0), some (iv x1)]) cl_8 V_X8_trayed (Or.inl q1975) dX8_placed_2 rfl rfl (Nat.le_of_ble_eq_true rfl) (Nat.le_of_ble_eq_true rfl) (ly8_k La0_h) ?_
  refine mx_iload_n dX8_trayed_0 rfl rfl ?_
  refine mx_if_lt (tgt := 9) dX8_trayed_1 rfl (fun c1 => ?_) (fun c1 => ?_)
  · have H := H.1 c1
    refine mx_iconst dX8_trayed_9 ic_1 ?_
    refine mx_goto (tgt := 27) dX8_trayed_10 rfl ?_
    refine mx_iretK rfl dX8_trayed_27 ?_
    refine mx_istore_n (al' := [some (rv a0), some (iv x1), some (iv x2), some (iv (1 : Int32))]) dX8_placed_5 rfl (Nat.le_of_ble_eq_true rfl) rfl ?_
    refine mx_iload_n dX8_placed_6 rfl rfl ?_
    refine mx_if_le (tgt := 14) dX8_placed_7 rfl (fun _ => absurd ‹_› (by decide)) (fun _ => ?_)
    refine mx_iload_n dX8_placed_10 rfl rfl ?_
    refine mx_goto (tgt := 33) dX8_placed_11 rfl ?_
    exact mx_iret rfl dX8_placed_33 H
  · have H := H.2 c1
    refine mx_iload_n dX8_trayed_4 rfl rfl ?_
    refine mx_iconst dX8_trayed_5 ic_4 ?_
    refine mx_icmp_lt (tgt := 13) dX8_trayed_6 rfl (fun c2 => ?_) (fun c2 => ?_)
    · have H := H.1 c2
      refine mx_aload_n dX8_trayed_13 rfl rfl ?_
      refine mx_get 8 3 (ref := "PrairiePoolModel") cl_8 (Nat.le_of_ble_eq_true rfl) (Or.inl q1630) (Or.inl rfl) dX8_trayed_14 (fv_8_3 _ _) (ly8_k La0_h) ?_
      refine mx_tr (ly8_R_0_3 La0_h) ?_
      refine mx_iload_n dX8_trayed_17 rfl rfl ?_
      obtain ⟨k3, H⟩ := H
      refine my_iald dX8_trayed_18 rfl (ly8_A_2 La0_h k3) ?_
      refine mx_if_ge (tgt := 26) dX8_trayed_19 rfl (fun c4 => ?_) (fun c4 => ?_)
      · have H := H.1 c4
        refine mx_iconst dX8_trayed_26 ic_0 ?_
        refine mx_iretK rfl dX8_trayed_27 ?_
        refine mx_istore_n (al' := [some (rv a0), some (iv x1), some (iv x2), some (iv (0 : Int32))]) dX8_placed_5 rfl (Nat.le_of_ble_eq_true rfl) rfl ?_
        refine mx_iload_n dX8_placed_6 rfl rfl ?_
        refine mx_if_le (tgt := 14) dX8_placed_7 rfl (fun _ => ?_) (fun _ => absurd ‹_› (by decide))
        refine mx_iload_n dX8_placed_14 rfl rfl ?_
        refine mx_if_lt (tgt := 28) dX8_placed_15 rfl (fun c5 => ?_) (fun c5 => ?_)
        · have H := H.1 c5
          refine mx_iconst dX8_placed_28 ic_4 ?_
          refine mx_goto (tgt := 33) dX8_placed_29 rfl ?_
          exact mx_iret rfl dX8_placed_33 H
        · have H := H.2 c5
          refine mx_iload_n dX8_placed_18 rfl rfl ?_
          refine mx_aload_n dX8_placed_19 rfl rfl ?_
          refine mx_get 8 3 (ref := "PrairiePoolModel") cl_8 (Nat.le_of_ble_eq_true rfl) (Or.inl q1630) (Or.inl rfl) dX8_placed_20 (fv_8_3 _ _) (ly8_k La0_h) ?_
          refine mx_tr (ly8_R_0_3 La0_h) ?_
          refine mx_iload_n dX8_placed_23 rfl rfl ?_
          refine my_iald dX8_placed_24 rfl (ly8_A_2 La0_h k3) ?_
          refine mx_icmp_lt (tgt := 32) dX8_placed_25 rfl (fun c6 => ?_) (fun c6 => ?_)
          · have H := H.1 c6
            refine mx_iconst dX8_placed_32 ic_0 ?_
            exact mx_iret rfl dX8_placed_33 H
          · have H := H.2 c6
            refine mx_iconst dX8_placed_28 ic_4 ?_
            refine mx_goto (tgt := 33) dX8_placed_29 rfl ?_
            exact mx_iret rfl dX8_placed_33 H
      · have H := H.2 c4
        refine mx_iconst dX8_trayed_22 ic_3 ?_
        refine mx_goto (tgt := 27) dX8_trayed_23 rfl ?_
        refine mx_iretK rfl dX8_trayed_27 ?_
        refine mx_istore_n (al' := [some (rv a0), some (iv x1), some (iv x2), some (iv (3 : Int32))]) dX8_placed_5 rfl (Nat.le_of_ble_eq_true rfl) rfl ?_
        refine mx_iload_n dX8_placed_6 rfl rfl ?_
        refine mx_if_le (tgt := 14) dX8_placed_7 rfl (fun _ => absurd ‹_› (by decide)) (fun _ => ?_)
        refine mx_iload_n dX8_placed_10 rfl rfl ?_
        refine mx_goto (tgt := 33) dX8_placed_11 rfl ?_
        exact mx_iret rfl dX8_placed_33 H
    · have H := H.2 c2
      refine mx_iconst dX8_trayed_9 ic_1 ?_
      refine mx_goto (tgt := 27) dX8_trayed_10 rfl ?_
      refine mx_iretK rfl dX8_trayed_27 ?_
      refine mx_istore_n (al' := [some (rv a0), some (iv x1), some (iv x2), some (iv (1 : Int32))]) dX8_placed_5 rfl (Nat.le_of_ble_eq_true rfl) rfl ?_
      refine mx_iload_n dX8_placed_6 rfl rfl ?_
      refine mx_if_le (tgt := 14) dX8_placed_7 rfl (fun _ => absurd ‹_› (by decide)) (fun _ => ?_)
      refine mx_iload_n dX8_placed_10 rfl rfl ?_
      refine mx_goto (tgt := 33) dX8_placed_11 rfl ?_
      exact mx_iret rfl dX8_placed_33 H
theorem v_X8_trayed {G : ma_G} {d : Nat} {a0 : Nat} {x1 : Int32} {h : ah_T} {Q : Option ma_V → ah_T → Prop} {E : Nat → ah_T → Prop} (La0_h : LY8 h a0) (H : (x1 < 0 → Q (some (iv (1 : Int32))) h) ∧ (¬ x1 < 0 → (x1 < (4 : Int32) → vp_in x1 4 ∧ (0 ≤ (ah_I h (a0 + 2) x1.toNatClampNeg) → Q (some (iv (0 : Int32))) h) ∧ (¬ 0 ≤ (ah_I h (a0 + 2) x1.toNatClampNeg) → Q (some (iv (3 : Int32))) h)) ∧ (¬ x1 < (4 : Int32) → Q (some (iv (1 : Int32))) h))) : MX G mi_X8_trayed d 0 [some (rv a0), some (iv x1)] [] h Q E := by
  refine mx_iload_n dX8_trayed_0 rfl rfl ?_
  refine mx_if_lt (tgt := 9) dX8_trayed_1 rfl (fun c1 => ?_) (fun c1 => ?_)
  · have H := H.1 c1
    refine mx_iconst dX8_trayed_9 ic_1 ?_
    refine mx_goto (tgt := 27) dX8_trayed_10 rfl ?_
    exact mx_iret rfl dX8_trayed_27 H
  · have H := H.2 c1
    refine mx_iload_n dX8_trayed_4 rfl rfl ?_
    refine mx_iconst dX8_trayed_5 ic_4 ?_
    refine mx_icmp_lt (tgt := 13) dX8_trayed_6 rfl (fun c2 => ?_) (fun c2 => ?_)
    · have H := H.1 c2
      refine mx_aload_n dX8_trayed_13 rfl rfl ?_
      refine mx_get 8 3 (ref := "PrairiePoolModel") cl_8 (Nat.le_of_ble_eq_true rfl) (Or.inl q1630) (Or.inl rfl) dX8_trayed_14 (fv_8_3 _ _) (ly8_k La0_h) ?_
      refine mx_tr (ly8_R_0_3 La0_h) ?_
      refine mx_iload_n dX8_trayed_17 rfl rfl ?_
      obtain ⟨k3, H⟩ := H
      refine my_iald dX8_trayed_18 rfl (ly8_A_2 La0_h k3) ?_
      refine mx_if_ge (tgt := 26) dX8_trayed_19 rfl (fun c4 => ?_) (fun c4 => ?_)
      · have H := H.1 c4
        refine mx_iconst dX8_trayed_26 ic_0 ?_
        exact mx_iret rfl dX8_trayed_27 H
      · have H := H.2 c4
        refine mx_iconst dX8_trayed_22 ic_3 ?_
        refine mx_goto (tgt := 27) dX8_trayed_23 rfl ?_
        exact mx_iret rfl dX8_trayed_27 H
    · have H := H.2 c2
      refine mx_iconst dX8_trayed_9 ic_1 ?_
      refine mx_goto (tgt := 27) dX8_trayed_10 rfl ?_
      exact mx_iret rfl dX8_trayed_27 H
theorem dX8_read_0 : decode mi_X8_read.2.1 0 = .ok (.aload_n 0, 1) := by decide +kernel
theorem dX8_read_1 : decode mi_X8_read.2.1 1 = .ok (.iconst 0, 1) := by decide +kernel
theorem dX8_read_2 : decode mi_X8_read.2.1 2 = .ok (.putfield 257, 3) := by decide +kernel
theorem dX8_read_5 : decode mi_X8_read.2.1 5 = .ok (.aload_n 0, 1) := by decide +kernel
theorem dX8_read_6 : decode mi_X8_read.2.1 6 = .ok (.aload_n 0, 1) := by decide +kernel
theorem dX8_read_7 : decode mi_X8_read.2.1 7 = .ok (.iload_n 1, 1) := by decide +kernel
theorem dX8_read_8 : decode mi_X8_read.2.1 8 = .ok (.iload_n 2, 1) := by decide +kernel
theorem dX8_read_9 : decode mi_X8_read.2.1 9 = .ok (.invokevirtual 281, 3) := by decide +kernel
theorem dX8_read_12 : decode mi_X8_read.2.1 12 = .ok (.putfield 260, 3) := by decide +kernel
theorem dX8_read_15 : decode mi_X8_read.2.1 15 = .ok (.aload_n 0, 1) := by decide +kernel
theorem dX8_read_16 : decode mi_X8_read.2.1 16 = .ok (.getfield 260, 3) := by decide +kernel
theorem dX8_read_19 : decode mi_X8_read.2.1 19 = .ok (.ifCond .le 9, 3) := by decide +kernel
theorem dX8_read_22 : decode mi_X8_read.2.1 22 = .ok (.ldc2_w 289, 3) := by decide +kernel
theorem dX8_read_25 : decode mi_X8_read.2.1 25 = .ok (.goto 14, 3) := by decide +kernel
theorem dX8_read_28 : decode mi_X8_read.2.1 28 = .ok (.aload_n 0, 1) := by decide +kernel
theorem dX8_read_29 : decode mi_X8_read.2.1 29 = .ok (.getfield 16, 3) := by decide +kernel
theorem dX8_read_32 : decode mi_X8_read.2.1 32 = .ok (.bipush 40, 2) := by decide +kernel
theorem dX8_read_34 : decode mi_X8_read.2.1 34 = .ok (.iload_n 1, 1) := by decide +kernel
theorem dX8_read_35 : decode mi_X8_read.2.1 35 = .ok (.imul, 1) := by decide +kernel
theorem dX8_read_36 : decode mi_X8_read.2.1 36 = .ok (.iload_n 2, 1) := by decide +kernel
theorem dX8_read_37 : decode mi_X8_read.2.1 37 = .ok (.iadd, 1) := by decide +kernel
theorem dX8_read_38 : decode mi_X8_read.2.1 38 = .ok (.laload, 1) := by decide +kernel
theorem dX8_read_39 : decode mi_X8_read.2.1 39 = .ok (.lreturn, 1) := by decide +kernel
theorem v_X8_read {G : ma_G} {d : Nat} {a0 : Nat} {x1 : Int32} {x2 : Int32} {h : ah_T} {Q : Option ma_V → ah_T → Prop} {E : Nat → ah_T → Prop} (La0_h : LY8 h a0) (H : ∀ h1 : ah_T, h1 = ah_wI h a0 1 (0 : Int32) → ah_ext h h1 → (x1 < 0 → ∀ h3 : ah_T, h3 = ah_wI h1 a0 0 (1 : Int32) → ah_ext h1 h3 → Q (some (jv (-1 : Int64))) h3) ∧ (¬ x1 < 0 → (x1 < (4 : Int32) → vp_in x1 4 ∧ (0 ≤ (ah_I h (a0 + 2) x1.toNatClampNeg) → (x2 < 0 → ∀ h8 : ah_T, h8 = ah_wI h1 a0 0 (4 : Int32) → ah_ext h1 h8 → Q (some (jv (-1 : Int64))) h8) ∧ (¬ x2 < 0 → (x2 < (ah_I h (a0 + 2) x1.toNatClampNeg) → ∀ h10 : ah_T, h10 = ah_wI h1 a0 0 (0 : Int32) → ah_ext h1 h10 → vp_in (((40 : Int32) * x1) + x2) 160 ∧ Q (some (jv (ah_J h (a0 + 3) (((40 : Int32) * x1) + x2).toNatClampNeg))) h10) ∧ (¬ x2 < (ah_I h (a0 + 2) x1.toNatClampNeg) → ∀ h12 : ah_T, h12 = ah_wI h1 a0 0 (4 : Int32) → ah_ext h1 h12 → Q (some (jv (-1 : Int64))) h12))) ∧ (¬ 0 ≤ (ah_I h (a0 + 2) x1.toNatClampNeg) → ∀ h13 : ah_T, h13 = ah_wI h1 a0 0 (3 : Int32) → ah_ext h1 h13 → Q (some (jv (-1 : Int64))) h13)) ∧ (¬ x1 < (4 : Int32) → ∀ h14 : ah_T, h14 = ah_wI h1 a0 0 (1 : Int32) → ah_ext h1 h14 → Q (some (jv (-1 : Int64))) h14))) : MX G mi_X8_read (d + 2) 0 [some (rv a0), some (iv x1), some (iv x2)] [] h Q E := by
  refine mx_aload_n dX8_read_0 rfl rfl ?_
  refine mx_iconst dX8_read_1 ic_0 ?_
  refine mx_putI 8 1 (ref := "PrairiePoolModel") cl_8 (Nat.le_of_ble_eq_true rfl) (Or.inl q1628) (Or.inl rfl) dX8_read_2 (Or.inl rfl) rfl (ly8_k La0_h) ?_
  refine mx_nmI  (fun h1 eh1 Xh1 Kh1 Lh1 => ?_)
  have H := H h1 eh1 Xh1
  have La0_h1 := La0_h.ext Xh1
  refine mx_aload_n dX8_read_5 rfl rfl ?_
  refine mx_aload_n dX8_read_6 rfl rfl ?_
  refine mx_iload_n dX8_read_7 rfl rfl ?_
  refine mx_iload_n dX8_read_8 rfl rfl ?_
  refine mx_callV 8 (y' := mi_X8_placed) (vs := [iv x1, iv x2]) (st := [rv a0]) (al' := [some (rv a0), some (iv x1), some (iv x2), none]) cl_8 V_X8_placed (Or.inl q1971) dX8_read_9 rfl rfl (Nat.le_of_ble_eq_true rfl) (Nat.le_of_ble_eq_true rfl) (ly8_k La0_h1) ?_
  refine mx_aload_n dX8_placed_0 rfl rfl ?_
  refine mx_iload_n dX8_placed_1 rfl rfl ?_
  refine mx_callV 8 (y' := mi_X8_trayed) (vs := [iv x1]) (st := []) (al' := [some (rv a0), some (iv x1)]) cl_8 V_X8_trayed (Or.inl q1975) dX8_placed_2 rfl rfl (Nat.le_of_ble_eq_true rfl) (Nat.le_of_ble_eq_true rfl) (ly8_k La0_h1) ?_
  refine mx_iload_n dX8_trayed_0 rfl rfl ?_
  refine mx_if_lt (tgt := 9) dX8_trayed_1 rfl (fun c2 => ?_) (fun c2 => ?_)
  · have H := H.1 c2
    refine mx_iconst dX8_trayed_9 ic_1 ?_
    refine mx_goto (tgt := 27) dX8_trayed_10 rfl ?_
    refine mx_iretK rfl dX8_trayed_27 ?_
    refine mx_istore_n (al' := [some (rv a0), some (iv x1), some (iv x2), some (iv (1 : Int32))]) dX8_placed_5 rfl (Nat.le_of_ble_eq_true rfl) rfl ?_
    refine mx_iload_n dX8_placed_6 rfl rfl ?_
    refine mx_if_le (tgt := 14) dX8_placed_7 rfl (fun _ => absurd ‹_› (by decide)) (fun _ => ?_)
    refine mx_iload_n dX8_placed_10 rfl rfl ?_
    refine mx_goto (tgt := 33) dX8_placed_11 rfl ?_
    refine mx_iretK rfl dX8_placed_33 ?_
    refine mx_putI 8 0 (ref := "PrairiePoolModel") cl_8 (Nat.le_of_ble_eq_true rfl) (Or.inl q1627) (Or.inl rfl) dX8_read_12 (Or.inl rfl) rfl (ly8_k La0_h1) ?_
    refine mx_nmI  (fun h3 eh3 Xh3 Kh3 Lh3 => ?_)
    have H := H h3 eh3 Xh3
    have Kh3 := Kh3.trans Kh1
    have Lh3 := Lh3.trans Lh1
    have La0_h3 := La0_h1.ext Xh3
    refine mx_aload_n dX8_read_15 rfl rfl ?_
    refine mx_get 8 0 (ref := "PrairiePoolModel") cl_8 (Nat.le_of_ble_eq_true rfl) (Or.inl q1627) (Or.inl rfl) dX8_read_16 (fv_8_0 _ _) (ly8_k La0_h3) ?_
    refine mx_ti (ah_hitI eh3) ?_
    refine mx_if_le (tgt := 28) dX8_read_19 rfl (fun _ => absurd ‹_› (by decide)) (fun _ => ?_)
    refine mx_ldc2 q1986 dX8_read_22 ?_
    refine mx_goto (tgt := 39) dX8_read_25 rfl ?_
    exact mx_lret rfl dX8_read_39 H
  · have H := H.2 c2
    refine mx_iload_n dX8_trayed_4 rfl rfl ?_
    refine mx_iconst dX8_trayed_5 ic_4 ?_
    refine mx_icmp_lt (tgt := 13) dX8_trayed_6 rfl (fun c4 => ?_) (fun c4 => ?_)
    · have H := H.1 c4
      refine mx_aload_n dX8_trayed_13 rfl rfl ?_
      refine mx_get 8 3 (ref := "PrairiePoolModel") cl_8 (Nat.le_of_ble_eq_true rfl) (Or.inl q1630) (Or.inl rfl) dX8_trayed_14 (fv_8_3 _ _) (ly8_k La0_h1) ?_
      refine mx_tr (ly8_R_0_3 La0_h1) ?_
      refine mx_iload_n dX8_trayed_17 rfl rfl ?_
      obtain ⟨k5, H⟩ := H
      refine my_iald dX8_trayed_18 rfl (ly8_A_2 La0_h1 k5) ?_
      refine mx_ti (ah_skIA eh1 (by omega)) ?_
      refine mx_if_ge (tgt := 26) dX8_trayed_19 rfl (fun c6 => ?_) (fun c6 => ?_)
      · have H := H.1 c6
        refine mx_iconst dX8_trayed_26 ic_0 ?_
        refine mx_iretK rfl dX8_trayed_27 ?_
        refine mx_istore_n (al' := [some (rv a0), some (iv x1), some (iv x2), some (iv (0 : Int32))]) dX8_placed_5 rfl (Nat.le_of_ble_eq_true rfl) rfl ?_
        refine mx_iload_n dX8_placed_6 rfl rfl ?_
        refine mx_if_le (tgt := 14) dX8_placed_7 rfl (fun _ => ?_) (fun _ => absurd ‹_› (by decide))
        refine mx_iload_n dX8_placed_14 rfl rfl ?_
        refine mx_if_lt (tgt := 28) dX8_placed_15 rfl (fun c7 => ?_) (fun c7 => ?_)
        · have H := H.1 c7
          refine mx_iconst dX8_placed_28 ic_4 ?_
          refine mx_goto (tgt := 33) dX8_placed_29 rfl ?_
          refine mx_iretK rfl dX8_placed_33 ?_
          refine mx_putI 8 0 (ref := "PrairiePoolModel") cl_8 (Nat.le_of_ble_eq_true rfl) (Or.inl q1627) (Or.inl rfl) dX8_read_12 (Or.inl rfl) rfl (ly8_k La0_h1) ?_
          refine mx_nmI  (fun h8 eh8 Xh8 Kh8 Lh8 => ?_)
          have H := H h8 eh8 Xh8
          have Kh8 := Kh8.trans Kh1
          have Lh8 := Lh8.trans Lh1
          have La0_h8 := La0_h1.ext Xh8
          refine mx_aload_n dX8_read_15 rfl rfl ?_
          refine mx_get 8 0 (ref := "PrairiePoolModel") cl_8 (Nat.le_of_ble_eq_true rfl) (Or.inl q1627) (Or.inl rfl) dX8_read_16 (fv_8_0 _ _) (ly8_k La0_h8) ?_
          refine mx_ti (ah_hitI eh8) ?_
          refine mx_if_le (tgt := 28) dX8_read_19 rfl (fun _ => absurd ‹_› (by decide)) (fun _ => ?_)
          refine mx_ldc2 q1986 dX8_read_22 ?_
          refine mx_goto (tgt := 39) dX8_read_25 rfl ?_
          exact mx_lret rfl dX8_read_39 H
        · have H := H.2 c7
          refine mx_iload_n dX8_placed_18 rfl rfl ?_
          refine mx_aload_n dX8_placed_19 rfl rfl ?_
          refine mx_get 8 3 (ref := "PrairiePoolModel") cl_8 (Nat.le_of_ble_eq_true rfl) (Or.inl q1630) (Or.inl rfl) dX8_placed_20 (fv_8_3 _ _) (ly8_k La0_h1) ?_
          refine mx_tr (ly8_R_0_3 La0_h1) ?_
          refine mx_iload_n dX8_placed_23 rfl rfl ?_
          refine my_iald dX8_placed_24 rfl (ly8_A_2 La0_h1 k5) ?_
          refine mx_ti (ah_skIA eh1 (by omega)) ?_
          refine mx_icmp_lt (tgt := 32) dX8_placed_25 rfl (fun c9 => ?_) (fun c9 => ?_)
          · have H := H.1 c9
            refine mx_iconst dX8_placed_32 ic_0 ?_
            refine mx_iretK rfl dX8_placed_33 ?_
            refine mx_putI 8 0 (ref := "PrairiePoolModel") cl_8 (Nat.le_of_ble_eq_true rfl) (Or.inl q1627) (Or.inl rfl) dX8_read_12 (Or.inl rfl) rfl (ly8_k La0_h1) ?_
            refine mx_nmI  (fun h10 eh10 Xh10 Kh10 Lh10 => ?_)
            have H := H h10 eh10 Xh10
            have Kh10 := Kh10.trans Kh1
            have Lh10 := Lh10.trans Lh1
            have La0_h10 := La0_h1.ext Xh10
            refine mx_aload_n dX8_read_15 rfl rfl ?_
            refine mx_get 8 0 (ref := "PrairiePoolModel") cl_8 (Nat.le_of_ble_eq_true rfl) (Or.inl q1627) (Or.inl rfl) dX8_read_16 (fv_8_0 _ _) (ly8_k La0_h10) ?_
            refine mx_ti (ah_hitI eh10) ?_
            refine mx_if_le (tgt := 28) dX8_read_19 rfl (fun _ => ?_) (fun _ => absurd ‹_› (by decide))
            refine mx_aload_n dX8_read_28 rfl rfl ?_
            refine mx_get 8 4 (ref := "PrairiePoolModel") cl_8 (Nat.le_of_ble_eq_true rfl) (Or.inl q1631) (Or.inl rfl) dX8_read_29 (fv_8_4 _ _) (ly8_k La0_h10) ?_
            refine mx_tr (ly8_R_0_4 La0_h10) ?_
            refine mx_bipush dX8_read_32 ib_40 ?_
            refine mx_iload_n dX8_read_34 rfl rfl ?_
            refine mx_imul dX8_read_35 ?_
            refine mx_iload_n dX8_read_36 rfl rfl ?_
            refine mx_iadd dX8_read_37 ?_
            obtain ⟨k11, H⟩ := H
            refine my_lald dX8_read_38 rfl (ly8_A_3 La0_h10 k11) ?_
            refine mx_tj ((ah_JI eh10).trans (ah_JI eh1)) ?_
            exact mx_lret rfl dX8_read_39 H
          · have H := H.2 c9
            refine mx_iconst dX8_placed_28 ic_4 ?_
            refine mx_goto (tgt := 33) dX8_placed_29 rfl ?_
            refine mx_iretK rfl dX8_placed_33 ?_
            refine mx_putI 8 0 (ref := "PrairiePoolModel") cl_8 (Nat.le_of_ble_eq_true rfl) (Or.inl q1627) (Or.inl rfl) dX8_read_12 (Or.inl rfl) rfl (ly8_k La0_h1) ?_
            refine mx_nmI  (fun h12 eh12 Xh12 Kh12 Lh12 => ?_)
            have H := H h12 eh12 Xh12
            have Kh12 := Kh12.trans Kh1
            have Lh12 := Lh12.trans Lh1
            have La0_h12 := La0_h1.ext Xh12
            refine mx_aload_n dX8_read_15 rfl rfl ?_
            refine mx_get 8 0 (ref := "PrairiePoolModel") cl_8 (Nat.le_of_ble_eq_true rfl) (Or.inl q1627) (Or.inl rfl) dX8_read_16 (fv_8_0 _ _) (ly8_k La0_h12) ?_
            refine mx_ti (ah_hitI eh12) ?_
            refine mx_if_le (tgt := 28) dX8_read_19 rfl (fun _ => absurd ‹_› (by decide)) (fun _ => ?_)
            refine mx_ldc2 q1986 dX8_read_22 ?_
            refine mx_goto (tgt := 39) dX8_read_25 rfl ?_
            exact mx_lret rfl dX8_read_39 H
      · have H := H.2 c6
        refine mx_iconst dX8_trayed_22 ic_3 ?_
        refine mx_goto (tgt := 27) dX8_trayed_23 rfl ?_
        refine mx_iretK rfl dX8_trayed_27 ?_
        refine mx_istore_n (al' := [some (rv a0), some (iv x1), some (iv x2), some (iv (3 : Int32))]) dX8_placed_5 rfl (Nat.le_of_ble_eq_true rfl) rfl ?_
        refine mx_iload_n dX8_placed_6 rfl rfl ?_
        refine mx_if_le (tgt := 14) dX8_placed_7 rfl (fun _ => absurd ‹_› (by decide)) (fun _ => ?_)
        refine mx_iload_n dX8_placed_10 rfl rfl ?_
        refine mx_goto (tgt := 33) dX8_placed_11 rfl ?_
        refine mx_iretK rfl dX8_placed_33 ?_
        refine mx_putI 8 0 (ref := "PrairiePoolModel") cl_8 (Nat.le_of_ble_eq_true rfl) (Or.inl q1627) (Or.inl rfl) dX8_read_12 (Or.inl rfl) rfl (ly8_k La0_h1) ?_
        refine mx_nmI  (fun h13 eh13 Xh13 Kh13 Lh13 => ?_)
        have H := H h13 eh13 Xh13
        have Kh13 := Kh13.trans Kh1
        have Lh13 := Lh13.trans Lh1
        have La0_h13 := La0_h1.ext Xh13
        refine mx_aload_n dX8_read_15 rfl rfl ?_
        refine mx_get 8 0 (ref := "PrairiePoolModel") cl_8 (Nat.le_of_ble_eq_true rfl) (Or.inl q1627) (Or.inl rfl) dX8_read_16 (fv_8_0 _ _) (ly8_k La0_h13) ?_
        refine mx_ti (ah_hitI eh13) ?_
        refine mx_if_le (tgt := 28) dX8_read_19 rfl (fun _ => absurd ‹_› (by decide)) (fun _ => ?_)
        refine mx_ldc2 q1986 dX8_read_22 ?_
        refine mx_goto (tgt := 39) dX8_read_25 rfl ?_
        exact mx_lret rfl dX8_read_39 H
    · have H := H.2 c4
      refine mx_iconst dX8_trayed_9 ic_1 ?_
      refine mx_goto (tgt := 27) dX8_trayed_10 rfl ?_
      refine mx_iretK rfl dX8_trayed_27 ?_
      refine mx_istore_n (al' := [some (rv a0), some (iv x1), some (iv x2), some (iv (1 : Int32))]) dX8_placed_5 rfl (Nat.le_of_ble_eq_true rfl) rfl ?_
      refine mx_iload_n dX8_placed_6 rfl rfl ?_
      refine mx_if_le (tgt := 14) dX8_placed_7 rfl (fun _ => absurd ‹_› (by decide)) (fun _ => ?_)
      refine mx_iload_n dX8_placed_10 rfl rfl ?_
      refine mx_goto (tgt := 33) dX8_placed_11 rfl ?_
      refine mx_iretK rfl dX8_placed_33 ?_
      refine mx_putI 8 0 (ref := "PrairiePoolModel") cl_8 (Nat.le_of_ble_eq_true rfl) (Or.inl q1627) (Or.inl rfl) dX8_read_12 (Or.inl rfl) rfl (ly8_k La0_h1) ?_
      refine mx_nmI  (fun h14 eh14 Xh14 Kh14 Lh14 => ?_)
      have H := H h14 eh14 Xh14
      have Kh14 := Kh14.trans Kh1
      have Lh14 := Lh14.trans Lh1
      have La0_h14 := La0_h1.ext Xh14
      refine mx_aload_n dX8_read_15 rfl rfl ?_
      refine mx_get 8 0 (ref := "PrairiePoolModel") cl_8 (Nat.le_of_ble_eq_true rfl) (Or.inl q1627) (Or.inl rfl) dX8_read_16 (fv_8_0 _ _) (ly8_k La0_h14) ?_
      refine mx_ti (ah_hitI eh14) ?_
      refine mx_if_le (tgt := 28) dX8_read_19 rfl (fun _ => absurd ‹_› (by decide)) (fun _ => ?_)
      refine mx_ldc2 q1986 dX8_read_22 ?_
      refine mx_goto (tgt := 39) dX8_read_25 rfl ?_
      exact mx_lret rfl dX8_read_39 H
theorem dX8_pour_0 : decode mi_X8_pour.2.1 0 = .ok (.aload_n 0, 1) := by decide +kernel
theorem dX8_pour_1 : decode mi_X8_pour.2.1 1 = .ok (.iconst 0, 1) := by decide +kernel
theorem dX8_pour_2 : decode mi_X8_pour.2.1 2 = .ok (.putfield 257, 3) := by decide +kernel
theorem dX8_pour_5 : decode mi_X8_pour.2.1 5 = .ok (.aload_n 0, 1) := by decide +kernel
theorem dX8_pour_6 : decode mi_X8_pour.2.1 6 = .ok (.iconst 0, 1) := by decide +kernel
theorem dX8_pour_7 : decode mi_X8_pour.2.1 7 = .ok (.putfield 260, 3) := by decide +kernel
theorem dX8_pour_10 : decode mi_X8_pour.2.1 10 = .ok (.iload_n 1, 1) := by decide +kernel
theorem dX8_pour_11 : decode mi_X8_pour.2.1 11 = .ok (.ifCond .lt 17, 3) := by decide +kernel
theorem dX8_pour_14 : decode mi_X8_pour.2.1 14 = .ok (.iload_n 1, 1) := by decide +kernel
theorem dX8_pour_15 : decode mi_X8_pour.2.1 15 = .ok (.iconst 4, 1) := by decide +kernel
theorem dX8_pour_16 : decode mi_X8_pour.2.1 16 = .ok (.if_icmp .ge 12, 3) := by decide +kernel
theorem dX8_pour_19 : decode mi_X8_pour.2.1 19 = .ok (.iload_n 3, 1) := by decide +kernel
theorem dX8_pour_20 : decode mi_X8_pour.2.1 20 = .ok (.ifCond .lt 8, 3) := by decide +kernel
theorem dX8_pour_23 : decode mi_X8_pour.2.1 23 = .ok (.iload_n 3, 1) := by decide +kernel
theorem dX8_pour_24 : decode mi_X8_pour.2.1 24 = .ok (.iconst 4, 1) := by decide +kernel
theorem dX8_pour_25 : decode mi_X8_pour.2.1 25 = .ok (.if_icmp .lt 9, 3) := by decide +kernel
theorem dX8_pour_28 : decode mi_X8_pour.2.1 28 = .ok (.aload_n 0, 1) := by decide +kernel
theorem dX8_pour_29 : decode mi_X8_pour.2.1 29 = .ok (.iconst 1, 1) := by decide +kernel
theorem dX8_pour_30 : decode mi_X8_pour.2.1 30 = .ok (.invokevirtual 273, 3) := by decide +kernel
theorem dX8_pour_33 : decode mi_X8_pour.2.1 33 = .ok (.ireturn, 1) := by decide +kernel
theorem dX8_pour_34 : decode mi_X8_pour.2.1 34 = .ok (.aload_n 0, 1) := by decide +kernel
theorem dX8_pour_35 : decode mi_X8_pour.2.1 35 = .ok (.getfield 13, 3) := by decide +kernel
theorem dX8_pour_38 : decode mi_X8_pour.2.1 38 = .ok (.iload_n 1, 1) := by decide +kernel
theorem dX8_pour_39 : decode mi_X8_pour.2.1 39 = .ok (.iaload, 1) := by decide +kernel
theorem dX8_pour_40 : decode mi_X8_pour.2.1 40 = .ok (.ifCond .lt 12, 3) := by decide +kernel
theorem dX8_pour_43 : decode mi_X8_pour.2.1 43 = .ok (.aload_n 0, 1) := by decide +kernel
theorem dX8_pour_44 : decode mi_X8_pour.2.1 44 = .ok (.getfield 13, 3) := by decide +kernel
theorem dX8_pour_47 : decode mi_X8_pour.2.1 47 = .ok (.iload_n 3, 1) := by decide +kernel
theorem dX8_pour_48 : decode mi_X8_pour.2.1 48 = .ok (.iaload, 1) := by decide +kernel
theorem dX8_pour_49 : decode mi_X8_pour.2.1 49 = .ok (.ifCond .ge 9, 3) := by decide +kernel
theorem dX8_pour_52 : decode mi_X8_pour.2.1 52 = .ok (.aload_n 0, 1) := by decide +kernel
theorem dX8_pour_53 : decode mi_X8_pour.2.1 53 = .ok (.iconst 3, 1) := by decide +kernel
theorem dX8_pour_54 : decode mi_X8_pour.2.1 54 = .ok (.invokevirtual 273, 3) := by decide +kernel
theorem dX8_pour_57 : decode mi_X8_pour.2.1 57 = .ok (.ireturn, 1) := by decide +kernel
theorem dX8_pour_58 : decode mi_X8_pour.2.1 58 = .ok (.aload_n 0, 1) := by decide +kernel
theorem dX8_pour_59 : decode mi_X8_pour.2.1 59 = .ok (.getfield 7, 3) := by decide +kernel
theorem dX8_pour_62 : decode mi_X8_pour.2.1 62 = .ok (.iload_n 1, 1) := by decide +kernel
theorem dX8_pour_63 : decode mi_X8_pour.2.1 63 = .ok (.iaload, 1) := by decide +kernel
theorem dX8_pour_64 : decode mi_X8_pour.2.1 64 = .ok (.aload_n 0, 1) := by decide +kernel
theorem dX8_pour_65 : decode mi_X8_pour.2.1 65 = .ok (.getfield 7, 3) := by decide +kernel
theorem dX8_pour_68 : decode mi_X8_pour.2.1 68 = .ok (.iload_n 3, 1) := by decide +kernel
theorem dX8_pour_69 : decode mi_X8_pour.2.1 69 = .ok (.iaload, 1) := by decide +kernel
theorem dX8_pour_70 : decode mi_X8_pour.2.1 70 = .ok (.if_icmp .eq 10, 3) := by decide +kernel
theorem dX8_pour_73 : decode mi_X8_pour.2.1 73 = .ok (.aload_n 0, 1) := by decide +kernel
theorem dX8_pour_74 : decode mi_X8_pour.2.1 74 = .ok (.bipush 11, 2) := by decide +kernel
theorem dX8_pour_76 : decode mi_X8_pour.2.1 76 = .ok (.invokevirtual 273, 3) := by decide +kernel
theorem dX8_pour_79 : decode mi_X8_pour.2.1 79 = .ok (.ireturn, 1) := by decide +kernel
theorem dX8_pour_80 : decode mi_X8_pour.2.1 80 = .ok (.iload 5, 2) := by decide +kernel
theorem dX8_pour_82 : decode mi_X8_pour.2.1 82 = .ok (.ifCond .ge 10, 3) := by decide +kernel
theorem dX8_pour_85 : decode mi_X8_pour.2.1 85 = .ok (.aload_n 0, 1) := by decide +kernel
theorem dX8_pour_86 : decode mi_X8_pour.2.1 86 = .ok (.bipush 6, 2) := by decide +kernel
theorem dX8_pour_88 : decode mi_X8_pour.2.1 88 = .ok (.invokevirtual 273, 3) := by decide +kernel
theorem dX8_pour_91 : decode mi_X8_pour.2.1 91 = .ok (.ireturn, 1) := by decide +kernel
theorem dX8_pour_92 : decode mi_X8_pour.2.1 92 = .ok (.iload_n 2, 1) := by decide +kernel
theorem dX8_pour_93 : decode mi_X8_pour.2.1 93 = .ok (.ifCond .lt 43, 3) := by decide +kernel
theorem dX8_pour_96 : decode mi_X8_pour.2.1 96 = .ok (.iload 4, 2) := by decide +kernel
theorem dX8_pour_98 : decode mi_X8_pour.2.1 98 = .ok (.ifCond .lt 38, 3) := by decide +kernel
theorem dX8_pour_101 : decode mi_X8_pour.2.1 101 = .ok (.iload_n 2, 1) := by decide +kernel
theorem dX8_pour_102 : decode mi_X8_pour.2.1 102 = .ok (.i2l, 1) := by decide +kernel
theorem dX8_pour_103 : decode mi_X8_pour.2.1 103 = .ok (.iload 5, 2) := by decide +kernel
theorem dX8_pour_105 : decode mi_X8_pour.2.1 105 = .ok (.i2l, 1) := by decide +kernel
theorem dX8_pour_106 : decode mi_X8_pour.2.1 106 = .ok (.ladd, 1) := by decide +kernel
theorem dX8_pour_107 : decode mi_X8_pour.2.1 107 = .ok (.aload_n 0, 1) := by decide +kernel
theorem dX8_pour_108 : decode mi_X8_pour.2.1 108 = .ok (.getfield 13, 3) := by decide +kernel
theorem dX8_pour_111 : decode mi_X8_pour.2.1 111 = .ok (.iload_n 1, 1) := by decide +kernel
theorem dX8_pour_112 : decode mi_X8_pour.2.1 112 = .ok (.iaload, 1) := by decide +kernel
theorem dX8_pour_113 : decode mi_X8_pour.2.1 113 = .ok (.i2l, 1) := by decide +kernel
theorem dX8_pour_114 : decode mi_X8_pour.2.1 114 = .ok (.lcmp, 1) := by decide +kernel
theorem dX8_pour_115 : decode mi_X8_pour.2.1 115 = .ok (.ifCond .gt 21, 3) := by decide +kernel
theorem dX8_pour_118 : decode mi_X8_pour.2.1 118 = .ok (.iload 4, 2) := by decide +kernel
theorem dX8_pour_120 : decode mi_X8_pour.2.1 120 = .ok (.i2l, 1) := by decide +kernel
theorem dX8_pour_121 : decode mi_X8_pour.2.1 121 = .ok (.iload 5, 2) := by decide +kernel
theorem dX8_pour_123 : decode mi_X8_pour.2.1 123 = .ok (.i2l, 1) := by decide +kernel
theorem dX8_pour_124 : decode mi_X8_pour.2.1 124 = .ok (.ladd, 1) := by decide +kernel
theorem dX8_pour_125 : decode mi_X8_pour.2.1 125 = .ok (.aload_n 0, 1) := by decide +kernel
theorem dX8_pour_126 : decode mi_X8_pour.2.1 126 = .ok (.getfield 13, 3) := by decide +kernel
theorem dX8_pour_129 : decode mi_X8_pour.2.1 129 = .ok (.iload_n 3, 1) := by decide +kernel
theorem dX8_pour_130 : decode mi_X8_pour.2.1 130 = .ok (.iaload, 1) := by decide +kernel
theorem dX8_pour_131 : decode mi_X8_pour.2.1 131 = .ok (.i2l, 1) := by decide +kernel
theorem dX8_pour_132 : decode mi_X8_pour.2.1 132 = .ok (.lcmp, 1) := by decide +kernel
theorem dX8_pour_133 : decode mi_X8_pour.2.1 133 = .ok (.ifCond .le 9, 3) := by decide +kernel
theorem dX8_pour_136 : decode mi_X8_pour.2.1 136 = .ok (.aload_n 0, 1) := by decide +kernel
theorem dX8_pour_137 : decode mi_X8_pour.2.1 137 = .ok (.iconst 4, 1) := by decide +kernel
theorem dX8_pour_138 : decode mi_X8_pour.2.1 138 = .ok (.invokevirtual 273, 3) := by decide +kernel
theorem dX8_pour_141 : decode mi_X8_pour.2.1 141 = .ok (.ireturn, 1) := by decide +kernel
theorem dX8_pour_142 : decode mi_X8_pour.2.1 142 = .ok (.iload_n 2, 1) := by decide +kernel
theorem dX8_pour_143 : decode mi_X8_pour.2.1 143 = .ok (.iload 4, 2) := by decide +kernel
theorem dX8_pour_145 : decode mi_X8_pour.2.1 145 = .ok (.if_icmp .ge 7, 3) := by decide +kernel
theorem dX8_pour_148 : decode mi_X8_pour.2.1 148 = .ok (.iconst 1, 1) := by decide +kernel
theorem dX8_pour_149 : decode mi_X8_pour.2.1 149 = .ok (.goto 4, 3) := by decide +kernel
theorem dX8_pour_152 : decode mi_X8_pour.2.1 152 = .ok (.iconst 0, 1) := by decide +kernel
theorem dX8_pour_153 : decode mi_X8_pour.2.1 153 = .ok (.istore 6, 2) := by decide +kernel
theorem dX8_pour_155 : decode mi_X8_pour.2.1 155 = .ok (.iconst 0, 1) := by decide +kernel
theorem dX8_pour_156 : decode mi_X8_pour.2.1 156 = .ok (.istore 7, 2) := by decide +kernel
theorem dX8_pour_158 : decode mi_X8_pour.2.1 158 = .ok (.iload 7, 2) := by decide +kernel
theorem dX8_pour_160 : decode mi_X8_pour.2.1 160 = .ok (.iload 5, 2) := by decide +kernel
theorem dX8_pour_162 : decode mi_X8_pour.2.1 162 = .ok (.if_icmp .ge 57, 3) := by decide +kernel
theorem dX8_pour_165 : decode mi_X8_pour.2.1 165 = .ok (.iload 6, 2) := by decide +kernel
theorem dX8_pour_167 : decode mi_X8_pour.2.1 167 = .ok (.ifCond .eq 13, 3) := by decide +kernel
theorem dX8_pour_170 : decode mi_X8_pour.2.1 170 = .ok (.iload 5, 2) := by decide +kernel
theorem dX8_pour_172 : decode mi_X8_pour.2.1 172 = .ok (.iconst 1, 1) := by decide +kernel
theorem dX8_pour_173 : decode mi_X8_pour.2.1 173 = .ok (.isub, 1) := by decide +kernel
theorem dX8_pour_174 : decode mi_X8_pour.2.1 174 = .ok (.iload 7, 2) := by decide +kernel
theorem dX8_pour_176 : decode mi_X8_pour.2.1 176 = .ok (.isub, 1) := by decide +kernel
theorem dX8_pour_177 : decode mi_X8_pour.2.1 177 = .ok (.goto 5, 3) := by decide +kernel
theorem dX8_pour_180 : decode mi_X8_pour.2.1 180 = .ok (.iload 7, 2) := by decide +kernel
theorem dX8_pour_182 : decode mi_X8_pour.2.1 182 = .ok (.istore 8, 2) := by decide +kernel
theorem dX8_pour_184 : decode mi_X8_pour.2.1 184 = .ok (.aload_n 0, 1) := by decide +kernel
theorem dX8_pour_185 : decode mi_X8_pour.2.1 185 = .ok (.getfield 16, 3) := by decide +kernel
theorem dX8_pour_188 : decode mi_X8_pour.2.1 188 = .ok (.bipush 40, 2) := by decide +kernel
theorem dX8_pour_190 : decode mi_X8_pour.2.1 190 = .ok (.iload_n 3, 1) := by decide +kernel
theorem dX8_pour_191 : decode mi_X8_pour.2.1 191 = .ok (.imul, 1) := by decide +kernel
theorem dX8_pour_192 : decode mi_X8_pour.2.1 192 = .ok (.iload 4, 2) := by decide +kernel
theorem dX8_pour_194 : decode mi_X8_pour.2.1 194 = .ok (.iadd, 1) := by decide +kernel
theorem dX8_pour_195 : decode mi_X8_pour.2.1 195 = .ok (.iload 8, 2) := by decide +kernel
theorem dX8_pour_197 : decode mi_X8_pour.2.1 197 = .ok (.iadd, 1) := by decide +kernel
theorem dX8_pour_198 : decode mi_X8_pour.2.1 198 = .ok (.aload_n 0, 1) := by decide +kernel
theorem dX8_pour_199 : decode mi_X8_pour.2.1 199 = .ok (.getfield 16, 3) := by decide +kernel
theorem dX8_pour_202 : decode mi_X8_pour.2.1 202 = .ok (.bipush 40, 2) := by decide +kernel
theorem dX8_pour_204 : decode mi_X8_pour.2.1 204 = .ok (.iload_n 1, 1) := by decide +kernel
theorem dX8_pour_205 : decode mi_X8_pour.2.1 205 = .ok (.imul, 1) := by decide +kernel
theorem dX8_pour_206 : decode mi_X8_pour.2.1 206 = .ok (.iload_n 2, 1) := by decide +kernel
theorem dX8_pour_207 : decode mi_X8_pour.2.1 207 = .ok (.iadd, 1) := by decide +kernel
theorem dX8_pour_208 : decode mi_X8_pour.2.1 208 = .ok (.iload 8, 2) := by decide +kernel
theorem dX8_pour_210 : decode mi_X8_pour.2.1 210 = .ok (.iadd, 1) := by decide +kernel
theorem dX8_pour_211 : decode mi_X8_pour.2.1 211 = .ok (.laload, 1) := by decide +kernel
theorem dX8_pour_212 : decode mi_X8_pour.2.1 212 = .ok (.lastore, 1) := by decide +kernel
theorem dX8_pour_213 : decode mi_X8_pour.2.1 213 = .ok (.iinc 7 1, 3) := by decide +kernel
theorem dX8_pour_216 : decode mi_X8_pour.2.1 216 = .ok (.goto (-58), 3) := by decide +kernel
theorem dX8_pour_219 : decode mi_X8_pour.2.1 219 = .ok (.iconst 1, 1) := by decide +kernel
theorem dX8_pour_220 : decode mi_X8_pour.2.1 220 = .ok (.ireturn, 1) := by decide +kernel
theorem v_X8_pour {G : ma_G} {d : Nat} {a0 : Nat} {x1 : Int32} {x2 : Int32} {x3 : Int32} {x4 : Int32} {x5 : Int32} {h : ah_T} {Q : Option ma_V → ah_T → Prop} {E : Nat → ah_T → Prop} (La0_h : LY8 h a0) (H : ∀ h1 : ah_T, h1 = ah_wI h a0 1 (0 : Int32) → ah_ext h h1 → ∀ h2 : ah_T, h2 = ah_wI h1 a0 0 (0 : Int32) → ah_ext h1 h2 → (x1 < 0 → ∀ h4 : ah_T, h4 = ah_wI h2 a0 0 (1 : Int32) → ah_ext h2 h4 → Q (some (iv (0 : Int32))) h4) ∧ (¬ x1 < 0 → ((4 : Int32) ≤ x1 → ∀ h6 : ah_T, h6 = ah_wI h2 a0 0 (1 : Int32) → ah_ext h2 h6 → Q (some (iv (0 : Int32))) h6) ∧ (¬ (4 : Int32) ≤ x1 → (x3 < 0 → ∀ h8 : ah_T, h8 = ah_wI h2 a0 0 (1 : Int32) → ah_ext h2 h8 → Q (some (iv (0 : Int32))) h8) ∧ (¬ x3 < 0 → (x3 < (4 : Int32) → vp_in x1 4 ∧ ((ah_I h (a0 + 2) x1.toNatClampNeg) < 0 → ∀ h12 : ah_T, h12 = ah_wI h2 a0 0 (3 : Int32) → ah_ext h2 h12 → Q (some (iv (0 : Int32))) h12) ∧ (¬ (ah_I h (a0 + 2) x1.toNatClampNeg) < 0 → vp_in x3 4 ∧ (0 ≤ (ah_I h (a0 + 2) x3.toNatClampNeg) → ((ah_I h (a0 + 1) x1.toNatClampNeg) = (ah_I h (a0 + 1) x3.toNatClampNeg) → (0 ≤ x5 → (x2 < 0 → ∀ h18 : ah_T, h18 = ah_wI h2 a0 0 (4 : Int32) → ah_ext h2 h18 → Q (some (iv (0 : Int32))) h18) ∧ (¬ x2 < 0 → (x4 < 0 → ∀ h20 : ah_T, h20 = ah_wI h2 a0 0 (4 : Int32) → ah_ext h2 h20 → Q (some (iv (0 : Int32))) h20) ∧ (¬ x4 < 0 → ((ah_I h (a0 + 2) x1.toNatClampNeg).toInt64 < (x2.toInt64 + x5.toInt64) → ∀ h22 : ah_T, h22 = ah_wI h2 a0 0 (4 : Int32) → ah_ext h2 h22 → Q (some (iv (0 : Int32))) h22) ∧ (¬ (ah_I h (a0 + 2) x1.toNatClampNeg).toInt64 < (x2.toInt64 + x5.toInt64) → ((x4.toInt64 + x5.toInt64) ≤ (ah_I h (a0 + 2) x3.toNatClampNeg).toInt64 → (x4 ≤ x2 → MX G mi_X8_pour (d + 1) 158 [some (rv a0), some (iv x1), some (iv x2), some (iv x3), some (iv x4), some (iv x5), some (iv (0 : Int32)), some (iv (0 : Int32)), none] [] h2 Q E) ∧ (¬ x4 ≤ x2 → MX G mi_X8_pour (d + 1) 158 [some (rv a0), some (iv x1), some (iv x2), some (iv x3), some (iv x4), some (iv x5), some (iv (1 : Int32)), some (iv (0 : Int32)), none] [] h2 Q E)) ∧ (¬ (x4.toInt64 + x5.toInt64) ≤ (ah_I h (a0 + 2) x3.toNatClampNeg).toInt64 → ∀ h25 : ah_T, h25 = ah_wI h2 a0 0 (4 : Int32) → ah_ext h2 h25 → Q (some (iv (0 : Int32))) h25))))) ∧ (¬ 0 ≤ x5 → ∀ h26 : ah_T, h26 = ah_wI h2 a0 0 (6 : Int32) → ah_ext h2 h26 → Q (some (iv (0 : Int32))) h26)) ∧ (¬ (ah_I h (a0 + 1) x1.toNatClampNeg) = (ah_I h (a0 + 1) x3.toNatClampNeg) → ∀ h27 : ah_T, h27 = ah_wI h2 a0 0 (11 : Int32) → ah_ext h2 h27 → Q (some (iv (0 : Int32))) h27)) ∧ (¬ 0 ≤ (ah_I h (a0 + 2) x3.toNatClampNeg) → ∀ h28 : ah_T, h28 = ah_wI h2 a0 0 (3 : Int32) → ah_ext h2 h28 → Q (some (iv (0 : Int32))) h28))) ∧ (¬ x3 < (4 : Int32) → ∀ h29 : ah_T, h29 = ah_wI h2 a0 0 (1 : Int32) → ah_ext h2 h29 → Q (some (iv (0 : Int32))) h29))))) : MX G mi_X8_pour (d + 1) 0 [some (rv a0), some (iv x1), some (iv x2), some (iv x3), some (iv x4), some (iv x5), none, none, none] [] h Q E := by
  refine mx_aload_n dX8_pour_0 rfl rfl ?_
  refine mx_iconst dX8_pour_1 ic_0 ?_
  refine mx_putI 8 1 (ref := "PrairiePoolModel") cl_8 (Nat.le_of_ble_eq_true rfl) (Or.inl q1628) (Or.inl rfl) dX8_pour_2 (Or.inl rfl) rfl (ly8_k La0_h) ?_
  refine mx_nmI  (fun h1 eh1 Xh1 Kh1 Lh1 => ?_)
  have H := H h1 eh1 Xh1
  have La0_h1 := La0_h.ext Xh1
  refine mx_aload_n dX8_pour_5 rfl rfl ?_
  refine mx_iconst dX8_pour_6 ic_0 ?_
  refine mx_putI 8 0 (ref := "PrairiePoolModel") cl_8 (Nat.le_of_ble_eq_true rfl) (Or.inl q1627) (Or.inl rfl) dX8_pour_7 (Or.inl rfl) rfl (ly8_k La0_h1) ?_
  refine mx_nmI  (fun h2 eh2 Xh2 Kh2 Lh2 => ?_)
  have H := H h2 eh2 Xh2
  have Kh2 := Kh2.trans Kh1
  have Lh2 := Lh2.trans Lh1
  have La0_h2 := La0_h1.ext Xh2
  refine mx_iload_n dX8_pour_10 rfl rfl ?_
  refine mx_if_lt (tgt := 28) dX8_pour_11 rfl (fun c3 => ?_) (fun c3 => ?_)
  · have H := H.1 c3
    refine mx_aload_n dX8_pour_28 rfl rfl ?_
    refine mx_iconst dX8_pour_29 ic_1 ?_
    refine mx_callV 8 (y' := mi_X8_no) (vs := [iv (1 : Int32)]) (st := []) (al' := [some (rv a0), some (iv (1 : Int32))]) cl_8 V_X8_no (Or.inl q1963) dX8_pour_30 rfl rfl (Nat.le_of_ble_eq_true rfl) (Nat.le_of_ble_eq_true rfl) (ly8_k La0_h2) ?_
    refine mx_aload_n dX8_no_0 rfl rfl ?_
    refine mx_iload_n dX8_no_1 rfl rfl ?_
    refine mx_putI 8 0 (ref := "PrairiePoolModel") cl_8 (Nat.le_of_ble_eq_true rfl) (Or.inl q1627) (Or.inl rfl) dX8_no_2 (Or.inl rfl) rfl (ly8_k La0_h2) ?_
    refine mx_nmI  (fun h4 eh4 Xh4 Kh4 Lh4 => ?_)
    have H := H h4 eh4 Xh4
    have Kh4 := Kh4.trans Kh2
    have Lh4 := Lh4.trans Lh2
    have La0_h4 := La0_h2.ext Xh4
    refine mx_iconst dX8_no_5 ic_0 ?_
    refine mx_zretK rfl dX8_no_6 (Or.inl rfl) ?_
    exact mx_zret rfl dX8_pour_33 (Or.inl rfl) H
  · have H := H.2 c3
    refine mx_iload_n dX8_pour_14 rfl rfl ?_
    refine mx_iconst dX8_pour_15 ic_4 ?_
    refine mx_icmp_ge (tgt := 28) dX8_pour_16 rfl (fun c5 => ?_) (fun c5 => ?_)
    · have H := H.1 c5
      refine mx_aload_n dX8_pour_28 rfl rfl ?_
      refine mx_iconst dX8_pour_29 ic_1 ?_
      refine mx_callV 8 (y' := mi_X8_no) (vs := [iv (1 : Int32)]) (st := []) (al' := [some (rv a0), some (iv (1 : Int32))]) cl_8 V_X8_no (Or.inl q1963) dX8_pour_30 rfl rfl (Nat.le_of_ble_eq_true rfl) (Nat.le_of_ble_eq_true rfl) (ly8_k La0_h2) ?_
      refine mx_aload_n dX8_no_0 rfl rfl ?_
      refine mx_iload_n dX8_no_1 rfl rfl ?_
      refine mx_putI 8 0 (ref := "PrairiePoolModel") cl_8 (Nat.le_of_ble_eq_true rfl) (Or.inl q1627) (Or.inl rfl) dX8_no_2 (Or.inl rfl) rfl (ly8_k La0_h2) ?_
      refine mx_nmI  (fun h6 eh6 Xh6 Kh6 Lh6 => ?_)
      have H := H h6 eh6 Xh6
      have Kh6 := Kh6.trans Kh2
      have Lh6 := Lh6.trans Lh2
      have La0_h6 := La0_h2.ext Xh6
      refine mx_iconst dX8_no_5 ic_0 ?_
      refine mx_zretK rfl dX8_no_6 (Or.inl rfl) ?_
      exact mx_zret rfl dX8_pour_33 (Or.inl rfl) H
    · have H := H.2 c5
      refine mx_iload_n dX8_pour_19 rfl rfl ?_
      refine mx_if_lt (tgt := 28) dX8_pour_20 rfl (fun c7 => ?_) (fun c7 => ?_)
      · have H := H.1 c7
        refine mx_aload_n dX8_pour_28 rfl rfl ?_
        refine mx_iconst dX8_pour_29 ic_1 ?_
        refine mx_callV 8 (y' := mi_X8_no) (vs := [iv (1 : Int32)]) (st := []) (al' := [some (rv a0), some (iv (1 : Int32))]) cl_8 V_X8_no (Or.inl q1963) dX8_pour_30 rfl rfl (Nat.le_of_ble_eq_true rfl) (Nat.le_of_ble_eq_true rfl) (ly8_k La0_h2) ?_
        refine mx_aload_n dX8_no_0 rfl rfl ?_
        refine mx_iload_n dX8_no_1 rfl rfl ?_
        refine mx_putI 8 0 (ref := "PrairiePoolModel") cl_8 (Nat.le_of_ble_eq_true rfl) (Or.inl q1627) (Or.inl rfl) dX8_no_2 (Or.inl rfl) rfl (ly8_k La0_h2) ?_
        refine mx_nmI  (fun h8 eh8 Xh8 Kh8 Lh8 => ?_)
        have H := H h8 eh8 Xh8
        have Kh8 := Kh8.trans Kh2
        have Lh8 := Lh8.trans Lh2
        have La0_h8 := La0_h2.ext Xh8
        refine mx_iconst dX8_no_5 ic_0 ?_
        refine mx_zretK rfl dX8_no_6 (Or.inl rfl) ?_
        exact mx_zret rfl dX8_pour_33 (Or.inl rfl) H
      · have H := H.2 c7
        refine mx_iload_n dX8_pour_23 rfl rfl ?_
        refine mx_iconst dX8_pour_24 ic_4 ?_
        refine mx_icmp_lt (tgt := 34) dX8_pour_25 rfl (fun c9 => ?_) (fun c9 => ?_)
        · have H := H.1 c9
          refine mx_aload_n dX8_pour_34 rfl rfl ?_
          refine mx_get 8 3 (ref := "PrairiePoolModel") cl_8 (Nat.le_of_ble_eq_true rfl) (Or.inl q1630) (Or.inl rfl) dX8_pour_35 (fv_8_3 _ _) (ly8_k La0_h2) ?_
          refine mx_tr (ly8_R_0_3 La0_h2) ?_
          refine mx_iload_n dX8_pour_38 rfl rfl ?_
          obtain ⟨k10, H⟩ := H
          refine my_iald dX8_pour_39 rfl (ly8_A_2 La0_h2 k10) ?_
          refine mx_ti ((ah_skIA eh2 (by omega)).trans (ah_skIA eh1 (by omega))) ?_
          refine mx_if_lt (tgt := 52) dX8_pour_40 rfl (fun c11 => ?_) (fun c11 => ?_)
          · have H := H.1 c11
            refine mx_aload_n dX8_pour_52 rfl rfl ?_
            refine mx_iconst dX8_pour_53 ic_3 ?_
            refine mx_callV 8 (y' := mi_X8_no) (vs := [iv (3 : Int32)]) (st := []) (al' := [some (rv a0), some (iv (3 : Int32))]) cl_8 V_X8_no (Or.inl q1963) dX8_pour_54 rfl rfl (Nat.le_of_ble_eq_true rfl) (Nat.le_of_ble_eq_true rfl) (ly8_k La0_h2) ?_
            refine mx_aload_n dX8_no_0 rfl rfl ?_
            refine mx_iload_n dX8_no_1 rfl rfl ?_
            refine mx_putI 8 0 (ref := "PrairiePoolModel") cl_8 (Nat.le_of_ble_eq_true rfl) (Or.inl q1627) (Or.inl rfl) dX8_no_2 (Or.inl rfl) rfl (ly8_k La0_h2) ?_
            refine mx_nmI  (fun h12 eh12 Xh12 Kh12 Lh12 => ?_)
            have H := H h12 eh12 Xh12
            have Kh12 := Kh12.trans Kh2
            have Lh12 := Lh12.trans Lh2
            have La0_h12 := La0_h2.ext Xh12
            refine mx_iconst dX8_no_5 ic_0 ?_
            refine mx_zretK rfl dX8_no_6 (Or.inl rfl) ?_
            exact mx_zret rfl dX8_pour_57 (Or.inl rfl) H
          · have H := H.2 c11
            refine mx_aload_n dX8_pour_43 rfl rfl ?_
            refine mx_get 8 3 (ref := "PrairiePoolModel") cl_8 (Nat.le_of_ble_eq_true rfl) (Or.inl q1630) (Or.inl rfl) dX8_pour_44 (fv_8_3 _ _) (ly8_k La0_h2) ?_
            refine mx_tr (ly8_R_0_3 La0_h2) ?_
            refine mx_iload_n dX8_pour_47 rfl rfl ?_
            obtain ⟨k13, H⟩ := H
            refine my_iald dX8_pour_48 rfl (ly8_A_2 La0_h2 k13) ?_
            refine mx_ti ((ah_skIA eh2 (by omega)).trans (ah_skIA eh1 (by omega))) ?_
            refine mx_if_ge (tgt := 58) dX8_pour_49 rfl (fun c14 => ?_) (fun c14 => ?_)
            · have H := H.1 c14
              refine mx_aload_n dX8_pour_58 rfl rfl ?_
              refine mx_get 8 2 (ref := "PrairiePoolModel") cl_8 (Nat.le_of_ble_eq_true rfl) (Or.inl q1629) (Or.inl rfl) dX8_pour_59 (fv_8_2 _ _) (ly8_k La0_h2) ?_
              refine mx_tr (ly8_R_0_2 La0_h2) ?_
              refine mx_iload_n dX8_pour_62 rfl rfl ?_
              refine my_iald dX8_pour_63 rfl (ly8_A_1 La0_h2 k10) ?_
              refine mx_ti ((ah_skIA eh2 (by omega)).trans (ah_skIA eh1 (by omega))) ?_
              refine mx_aload_n dX8_pour_64 rfl rfl ?_
              refine mx_get 8 2 (ref := "PrairiePoolModel") cl_8 (Nat.le_of_ble_eq_true rfl) (Or.inl q1629) (Or.inl rfl) dX8_pour_65 (fv_8_2 _ _) (ly8_k La0_h2) ?_
              refine mx_tr (ly8_R_0_2 La0_h2) ?_
              refine mx_iload_n dX8_pour_68 rfl rfl ?_
              refine my_iald dX8_pour_69 rfl (ly8_A_1 La0_h2 k13) ?_
              refine mx_ti ((ah_skIA eh2 (by omega)).trans (ah_skIA eh1 (by omega))) ?_
              refine mx_icmp_eq (tgt := 80) dX8_pour_70 rfl (fun c15 => ?_) (fun c15 => ?_)
              · have H := H.1 c15
                refine mx_iload dX8_pour_80 rfl ?_
                refine mx_if_ge (tgt := 92) dX8_pour_82 rfl (fun c16 => ?_) (fun c16 => ?_)
                · have H := H.1 c16
                  refine mx_iload_n dX8_pour_92 rfl rfl ?_
                  refine mx_if_lt (tgt := 136) dX8_pour_93 rfl (fun c17 => ?_) (fun c17 => ?_)
                  · have H := H.1 c17
                    refine mx_aload_n dX8_pour_136 rfl rfl ?_
                    refine mx_iconst dX8_pour_137 ic_4 ?_
                    refine mx_callV 8 (y' := mi_X8_no) (vs := [iv (4 : Int32)]) (st := []) (al' := [some (rv a0), some (iv (4 : Int32))]) cl_8 V_X8_no (Or.inl q1963) dX8_pour_138 rfl rfl (Nat.le_of_ble_eq_true rfl) (Nat.le_of_ble_eq_true rfl) (ly8_k La0_h2) ?_
                    refine mx_aload_n dX8_no_0 rfl rfl ?_
                    refine mx_iload_n dX8_no_1 rfl rfl ?_
                    refine mx_putI 8 0 (ref := "PrairiePoolModel") cl_8 (Nat.le_of_ble_eq_true rfl) (Or.inl q1627) (Or.inl rfl) dX8_no_2 (Or.inl rfl) rfl (ly8_k La0_h2) ?_
                    refine mx_nmI  (fun h18 eh18 Xh18 Kh18 Lh18 => ?_)
                    have H := H h18 eh18 Xh18
                    have Kh18 := Kh18.trans Kh2
                    have Lh18 := Lh18.trans Lh2
                    have La0_h18 := La0_h2.ext Xh18
                    refine mx_iconst dX8_no_5 ic_0 ?_
                    refine mx_zretK rfl dX8_no_6 (Or.inl rfl) ?_
                    exact mx_zret rfl dX8_pour_141 (Or.inl rfl) H
                  · have H := H.2 c17
                    refine mx_iload dX8_pour_96 rfl ?_
                    refine mx_if_lt (tgt := 136) dX8_pour_98 rfl (fun c19 => ?_) (fun c19 => ?_)
                    · have H := H.1 c19
                      refine mx_aload_n dX8_pour_136 rfl rfl ?_
                      refine mx_iconst dX8_pour_137 ic_4 ?_
                      refine mx_callV 8 (y' := mi_X8_no) (vs := [iv (4 : Int32)]) (st := []) (al' := [some (rv a0), some (iv (4 : Int32))]) cl_8 V_X8_no (Or.inl q1963) dX8_pour_138 rfl rfl (Nat.le_of_ble_eq_true rfl) (Nat.le_of_ble_eq_true rfl) (ly8_k La0_h2) ?_
                      refine mx_aload_n dX8_no_0 rfl rfl ?_
                      refine mx_iload_n dX8_no_1 rfl rfl ?_
                      refine mx_putI 8 0 (ref := "PrairiePoolModel") cl_8 (Nat.le_of_ble_eq_true rfl) (Or.inl q1627) (Or.inl rfl) dX8_no_2 (Or.inl rfl) rfl (ly8_k La0_h2) ?_
                      refine mx_nmI  (fun h20 eh20 Xh20 Kh20 Lh20 => ?_)
                      have H := H h20 eh20 Xh20
                      have Kh20 := Kh20.trans Kh2
                      have Lh20 := Lh20.trans Lh2
                      have La0_h20 := La0_h2.ext Xh20
                      refine mx_iconst dX8_no_5 ic_0 ?_
                      refine mx_zretK rfl dX8_no_6 (Or.inl rfl) ?_
                      exact mx_zret rfl dX8_pour_141 (Or.inl rfl) H
                    · have H := H.2 c19
                      refine mx_iload_n dX8_pour_101 rfl rfl ?_
                      refine mx_i2l dX8_pour_102 ?_
                      refine mx_iload dX8_pour_103 rfl ?_
                      refine mx_i2l dX8_pour_105 ?_
                      refine mx_ladd dX8_pour_106 ?_
                      refine mx_aload_n dX8_pour_107 rfl rfl ?_
                      refine mx_get 8 3 (ref := "PrairiePoolModel") cl_8 (Nat.le_of_ble_eq_true rfl) (Or.inl q1630) (Or.inl rfl) dX8_pour_108 (fv_8_3 _ _) (ly8_k La0_h2) ?_
                      refine mx_tr (ly8_R_0_3 La0_h2) ?_
                      refine mx_iload_n dX8_pour_111 rfl rfl ?_
                      refine my_iald dX8_pour_112 rfl (ly8_A_2 La0_h2 k10) ?_
                      refine mx_ti ((ah_skIA eh2 (by omega)).trans (ah_skIA eh1 (by omega))) ?_
                      refine mx_i2l dX8_pour_113 ?_
                      refine mx_lif_gt (tgt := 136) dX8_pour_114 dX8_pour_115 rfl (fun c21 => ?_) (fun c21 => ?_)
                      · have H := H.1 c21
                        refine mx_aload_n dX8_pour_136 rfl rfl ?_
                        refine mx_iconst dX8_pour_137 ic_4 ?_
                        refine mx_callV 8 (y' := mi_X8_no) (vs := [iv (4 : Int32)]) (st := []) (al' := [some (rv a0), some (iv (4 : Int32))]) cl_8 V_X8_no (Or.inl q1963) dX8_pour_138 rfl rfl (Nat.le_of_ble_eq_true rfl) (Nat.le_of_ble_eq_true rfl) (ly8_k La0_h2) ?_
                        refine mx_aload_n dX8_no_0 rfl rfl ?_
                        refine mx_iload_n dX8_no_1 rfl rfl ?_
                        refine mx_putI 8 0 (ref := "PrairiePoolModel") cl_8 (Nat.le_of_ble_eq_true rfl) (Or.inl q1627) (Or.inl rfl) dX8_no_2 (Or.inl rfl) rfl (ly8_k La0_h2) ?_
                        refine mx_nmI  (fun h22 eh22 Xh22 Kh22 Lh22 => ?_)
                        have H := H h22 eh22 Xh22
                        have Kh22 := Kh22.trans Kh2
                        have Lh22 := Lh22.trans Lh2
                        have La0_h22 := La0_h2.ext Xh22
                        refine mx_iconst dX8_no_5 ic_0 ?_
                        refine mx_zretK rfl dX8_no_6 (Or.inl rfl) ?_
                        exact mx_zret rfl dX8_pour_141 (Or.inl rfl) H
                      · have H := H.2 c21
                        refine mx_iload dX8_pour_118 rfl ?_
                        refine mx_i2l dX8_pour_120 ?_
                        refine mx_iload dX8_pour_121 rfl ?_
                        refine mx_i2l dX8_pour_123 ?_
                        refine mx_ladd dX8_pour_124 ?_
                        refine mx_aload_n dX8_pour_125 rfl rfl ?_
                        refine mx_get 8 3 (ref := "PrairiePoolModel") cl_8 (Nat.le_of_ble_eq_true rfl) (Or.inl q1630) (Or.inl rfl) dX8_pour_126 (fv_8_3 _ _) (ly8_k La0_h2) ?_
                        refine mx_tr (ly8_R_0_3 La0_h2) ?_
                        refine mx_iload_n dX8_pour_129 rfl rfl ?_
                        refine my_iald dX8_pour_130 rfl (ly8_A_2 La0_h2 k13) ?_
                        refine mx_ti ((ah_skIA eh2 (by omega)).trans (ah_skIA eh1 (by omega))) ?_
                        refine mx_i2l dX8_pour_131 ?_
                        refine mx_lif_le (tgt := 142) dX8_pour_132 dX8_pour_133 rfl (fun c23 => ?_) (fun c23 => ?_)
                        · have H := H.1 c23
                          refine mx_iload_n dX8_pour_142 rfl rfl ?_
                          refine mx_iload dX8_pour_143 rfl ?_
                          refine mx_icmp_ge (tgt := 152) dX8_pour_145 rfl (fun c24 => ?_) (fun c24 => ?_)
                          · have H := H.1 c24
                            refine mx_iconst dX8_pour_152 ic_0 ?_
                            refine mx_istore (al' := [some (rv a0), some (iv x1), some (iv x2), some (iv x3), some (iv x4), some (iv x5), some (iv (0 : Int32)), none, none]) dX8_pour_153 (Nat.le_of_ble_eq_true rfl) rfl ?_
                            refine mx_iconst dX8_pour_155 ic_0 ?_
                            refine mx_istore (al' := [some (rv a0), some (iv x1), some (iv x2), some (iv x3), some (iv x4), some (iv x5), some (iv (0 : Int32)), some (iv (0 : Int32)), none]) dX8_pour_156 (Nat.le_of_ble_eq_true rfl) rfl ?_
                            exact mx_weak (al' := [some (rv a0), some (iv x1), some (iv x2), some (iv x3), some (iv x4), some (iv x5), some (iv (0 : Int32)), some (iv (0 : Int32)), none]) ⟨rfl, ⟨rfl, ⟨rfl, ⟨rfl, ⟨rfl, ⟨rfl, ⟨rfl, ⟨rfl, trivial⟩⟩⟩⟩⟩⟩⟩⟩ H
                          · have H := H.2 c24
                            refine mx_iconst dX8_pour_148 ic_1 ?_
                            refine mx_goto (tgt := 153) dX8_pour_149 rfl ?_
                            refine mx_istore (al' := [some (rv a0), some (iv x1), some (iv x2), some (iv x3), some (iv x4), some (iv x5), some (iv (1 : Int32)), none, none]) dX8_pour_153 (Nat.le_of_ble_eq_true rfl) rfl ?_
                            refine mx_iconst dX8_pour_155 ic_0 ?_
                            refine mx_istore (al' := [some (rv a0), some (iv x1), some (iv x2), some (iv x3), some (iv x4), some (iv x5), some (iv (1 : Int32)), some (iv (0 : Int32)), none]) dX8_pour_156 (Nat.le_of_ble_eq_true rfl) rfl ?_
                            exact mx_weak (al' := [some (rv a0), some (iv x1), some (iv x2), some (iv x3), some (iv x4), some (iv x5), some (iv (1 : Int32)), some (iv (0 : Int32)), none]) ⟨rfl, ⟨rfl, ⟨rfl, ⟨rfl, ⟨rfl, ⟨rfl, ⟨rfl, ⟨rfl, trivial⟩⟩⟩⟩⟩⟩⟩⟩ H
                        · have H := H.2 c23
                          refine mx_aload_n dX8_pour_136 rfl rfl ?_
                          refine mx_iconst dX8_pour_137 ic_4 ?_
                          refine mx_callV 8 (y' := mi_X8_no) (vs := [iv (4 : Int32)]) (st := []) (al' := [some (rv a0), some (iv (4 : Int32))]) cl_8 V_X8_no (Or.inl q1963) dX8_pour_138 rfl rfl (Nat.le_of_ble_eq_true rfl) (Nat.le_of_ble_eq_true rfl) (ly8_k La0_h2) ?_
                          refine mx_aload_n dX8_no_0 rfl rfl ?_
                          refine mx_iload_n dX8_no_1 rfl rfl ?_
                          refine mx_putI 8 0 (ref := "PrairiePoolModel") cl_8 (Nat.le_of_ble_eq_true rfl) (Or.inl q1627) (Or.inl rfl) dX8_no_2 (Or.inl rfl) rfl (ly8_k La0_h2) ?_
                          refine mx_nmI  (fun h25 eh25 Xh25 Kh25 Lh25 => ?_)
                          have H := H h25 eh25 Xh25
                          have Kh25 := Kh25.trans Kh2
                          have Lh25 := Lh25.trans Lh2
                          have La0_h25 := La0_h2.ext Xh25
                          refine mx_iconst dX8_no_5 ic_0 ?_
                          refine mx_zretK rfl dX8_no_6 (Or.inl rfl) ?_
                          exact mx_zret rfl dX8_pour_141 (Or.inl rfl) H
                · have H := H.2 c16
                  refine mx_aload_n dX8_pour_85 rfl rfl ?_
                  refine mx_bipush dX8_pour_86 ib_6 ?_
                  refine mx_callV 8 (y' := mi_X8_no) (vs := [iv (6 : Int32)]) (st := []) (al' := [some (rv a0), some (iv (6 : Int32))]) cl_8 V_X8_no (Or.inl q1963) dX8_pour_88 rfl rfl (Nat.le_of_ble_eq_true rfl) (Nat.le_of_ble_eq_true rfl) (ly8_k La0_h2) ?_
                  refine mx_aload_n dX8_no_0 rfl rfl ?_
                  refine mx_iload_n dX8_no_1 rfl rfl ?_
                  refine mx_putI 8 0 (ref := "PrairiePoolModel") cl_8 (Nat.le_of_ble_eq_true rfl) (Or.inl q1627) (Or.inl rfl) dX8_no_2 (Or.inl rfl) rfl (ly8_k La0_h2) ?_
                  refine mx_nmI  (fun h26 eh26 Xh26 Kh26 Lh26 => ?_)
                  have H := H h26 eh26 Xh26
                  have Kh26 := Kh26.trans Kh2
                  have Lh26 := Lh26.trans Lh2
                  have La0_h26 := La0_h2.ext Xh26
                  refine mx_iconst dX8_no_5 ic_0 ?_
                  refine mx_zretK rfl dX8_no_6 (Or.inl rfl) ?_
                  exact mx_zret rfl dX8_pour_91 (Or.inl rfl) H
              · have H := H.2 c15
                refine mx_aload_n dX8_pour_73 rfl rfl ?_
                refine mx_bipush dX8_pour_74 ib_11 ?_
                refine mx_callV 8 (y' := mi_X8_no) (vs := [iv (11 : Int32)]) (st := []) (al' := [some (rv a0), some (iv (11 : Int32))]) cl_8 V_X8_no (Or.inl q1963) dX8_pour_76 rfl rfl (Nat.le_of_ble_eq_true rfl) (Nat.le_of_ble_eq_true rfl) (ly8_k La0_h2) ?_
                refine mx_aload_n dX8_no_0 rfl rfl ?_
                refine mx_iload_n dX8_no_1 rfl rfl ?_
                refine mx_putI 8 0 (ref := "PrairiePoolModel") cl_8 (Nat.le_of_ble_eq_true rfl) (Or.inl q1627) (Or.inl rfl) dX8_no_2 (Or.inl rfl) rfl (ly8_k La0_h2) ?_
                refine mx_nmI  (fun h27 eh27 Xh27 Kh27 Lh27 => ?_)
                have H := H h27 eh27 Xh27
                have Kh27 := Kh27.trans Kh2
                have Lh27 := Lh27.trans Lh2
                have La0_h27 := La0_h2.ext Xh27
                refine mx_iconst dX8_no_5 ic_0 ?_
                refine mx_zretK rfl dX8_no_6 (Or.inl rfl) ?_
                exact mx_zret rfl dX8_pour_79 (Or.inl rfl) H
            · have H := H.2 c14
              refine mx_aload_n dX8_pour_52 rfl rfl ?_
              refine mx_iconst dX8_pour_53 ic_3 ?_
              refine mx_callV 8 (y' := mi_X8_no) (vs := [iv (3 : Int32)]) (st := []) (al' := [some (rv a0), some (iv (3 : Int32))]) cl_8 V_X8_no (Or.inl q1963) dX8_pour_54 rfl rfl (Nat.le_of_ble_eq_true rfl) (Nat.le_of_ble_eq_true rfl) (ly8_k La0_h2) ?_
              refine mx_aload_n dX8_no_0 rfl rfl ?_
              refine mx_iload_n dX8_no_1 rfl rfl ?_
              refine mx_putI 8 0 (ref := "PrairiePoolModel") cl_8 (Nat.le_of_ble_eq_true rfl) (Or.inl q1627) (Or.inl rfl) dX8_no_2 (Or.inl rfl) rfl (ly8_k La0_h2) ?_
              refine mx_nmI  (fun h28 eh28 Xh28 Kh28 Lh28 => ?_)
              have H := H h28 eh28 Xh28
              have Kh28 := Kh28.trans Kh2
              have Lh28 := Lh28.trans Lh2
              have La0_h28 := La0_h2.ext Xh28
              refine mx_iconst dX8_no_5 ic_0 ?_
              refine mx_zretK rfl dX8_no_6 (Or.inl rfl) ?_
              exact mx_zret rfl dX8_pour_57 (Or.inl rfl) H
        · have H := H.2 c9
          refine mx_aload_n dX8_pour_28 rfl rfl ?_
          refine mx_iconst dX8_pour_29 ic_1 ?_
          refine mx_callV 8 (y' := mi_X8_no) (vs := [iv (1 : Int32)]) (st := []) (al' := [some (rv a0), some (iv (1 : Int32))]) cl_8 V_X8_no (Or.inl q1963) dX8_pour_30 rfl rfl (Nat.le_of_ble_eq_true rfl) (Nat.le_of_ble_eq_true rfl) (ly8_k La0_h2) ?_
          refine mx_aload_n dX8_no_0 rfl rfl ?_
          refine mx_iload_n dX8_no_1 rfl rfl ?_
          refine mx_putI 8 0 (ref := "PrairiePoolModel") cl_8 (Nat.le_of_ble_eq_true rfl) (Or.inl q1627) (Or.inl rfl) dX8_no_2 (Or.inl rfl) rfl (ly8_k La0_h2) ?_
          refine mx_nmI  (fun h29 eh29 Xh29 Kh29 Lh29 => ?_)
          have H := H h29 eh29 Xh29
          have Kh29 := Kh29.trans Kh2
          have Lh29 := Lh29.trans Lh2
          have La0_h29 := La0_h2.ext Xh29
          refine mx_iconst dX8_no_5 ic_0 ?_
          refine mx_zretK rfl dX8_no_6 (Or.inl rfl) ?_
          exact mx_zret rfl dX8_pour_33 (Or.inl rfl) H
theorem v_X8_pour_158 {G : ma_G} {d : Nat} {a0 : Nat} {x1 : Int32} {x2 : Int32} {x3 : Int32} {x4 : Int32} {x5 : Int32} {x6 : Int32} {x7 : Int32} {h : ah_T} {Q : Option ma_V → ah_T → Prop} {E : Nat → ah_T → Prop} (La0_h : LY8 h a0) (H : (x5 ≤ x7 → Q (some (iv (1 : Int32))) h) ∧ (¬ x5 ≤ x7 → (x6 = 0 → MX G mi_X8_pour (d + 1) 182 [some (rv a0), some (iv x1), some (iv x2), some (iv x3), some (iv x4), some (iv x5), some (iv x6), some (iv x7), none] [iv x7] h Q E) ∧ (¬ x6 = 0 → MX G mi_X8_pour (d + 1) 182 [some (rv a0), some (iv x1), some (iv x2), some (iv x3), some (iv x4), some (iv x5), some (iv x6), some (iv x7), none] [iv ((x5 - (1 : Int32)) - x7)] h Q E))) : MX G mi_X8_pour (d + 1) 158 [some (rv a0), some (iv x1), some (iv x2), some (iv x3), some (iv x4), some (iv x5), some (iv x6), some (iv x7), none] [] h Q E := by
  refine mx_iload dX8_pour_158 rfl ?_
  refine mx_iload dX8_pour_160 rfl ?_
  refine mx_icmp_ge (tgt := 219) dX8_pour_162 rfl (fun c1 => ?_) (fun c1 => ?_)
  · have H := H.1 c1
    refine mx_iconst dX8_pour_219 ic_1 ?_
    exact mx_zret rfl dX8_pour_220 (Or.inr rfl) H
  · have H := H.2 c1
    refine mx_iload dX8_pour_165 rfl ?_
    refine mx_if_eq (tgt := 180) dX8_pour_167 rfl (fun c2 => ?_) (fun c2 => ?_)
    · have H := H.1 c2
      refine mx_iload dX8_pour_180 rfl ?_
      exact mx_weak (al' := [some (rv a0), some (iv x1), some (iv x2), some (iv x3), some (iv x4), some (iv x5), some (iv x6), some (iv x7), none]) ⟨rfl, ⟨rfl, ⟨rfl, ⟨rfl, ⟨rfl, ⟨rfl, ⟨rfl, ⟨rfl, trivial⟩⟩⟩⟩⟩⟩⟩⟩ H
    · have H := H.2 c2
      refine mx_iload dX8_pour_170 rfl ?_
      refine mx_iconst dX8_pour_172 ic_1 ?_
      refine mx_isub dX8_pour_173 ?_
      refine mx_iload dX8_pour_174 rfl ?_
      refine mx_isub dX8_pour_176 ?_
      refine mx_goto (tgt := 182) dX8_pour_177 rfl ?_
      exact mx_weak (al' := [some (rv a0), some (iv x1), some (iv x2), some (iv x3), some (iv x4), some (iv x5), some (iv x6), some (iv x7), none]) ⟨rfl, ⟨rfl, ⟨rfl, ⟨rfl, ⟨rfl, ⟨rfl, ⟨rfl, ⟨rfl, trivial⟩⟩⟩⟩⟩⟩⟩⟩ H
theorem v_X8_pour_182 {G : ma_G} {d : Nat} {a0 : Nat} {x1 : Int32} {x2 : Int32} {x3 : Int32} {x4 : Int32} {x5 : Int32} {x6 : Int32} {x7 : Int32} {z0 : Int32} {h : ah_T} {Q : Option ma_V → ah_T → Prop} {E : Nat → ah_T → Prop} (La0_h : LY8 h a0) (H : vp_in ((((40 : Int32) * x1) + x2) + z0) 160 ∧ vp_in ((((40 : Int32) * x3) + x4) + z0) 160 ∧ ∀ h3 : ah_T, h3 = ah_wJ h (a0 + 3) ((((40 : Int32) * x3) + x4) + z0).toNatClampNeg (ah_J h (a0 + 3) ((((40 : Int32) * x1) + x2) + z0).toNatClampNeg) → ah_ext h h3 → MX G mi_X8_pour (d + 1) 158 [some (rv a0), some (iv x1), some (iv x2), some (iv x3), some (iv x4), some (iv x5), some (iv x6), some (iv (x7 + (1 : Int32))), none] [] h3 Q E) : MX G mi_X8_pour (d + 1) 182 [some (rv a0), some (iv x1), some (iv x2), some (iv x3), some (iv x4), some (iv x5), some (iv x6), some (iv x7), none] [iv z0] h Q E := by
  refine mx_istore (al' := [some (rv a0), some (iv x1), some (iv x2), some (iv x3), some (iv x4), some (iv x5), some (iv x6), some (iv x7), some (iv z0)]) dX8_pour_182 (Nat.le_of_ble_eq_true rfl) rfl ?_
  refine mx_aload_n dX8_pour_184 rfl rfl ?_
  refine mx_get 8 4 (ref := "PrairiePoolModel") cl_8 (Nat.le_of_ble_eq_true rfl) (Or.inl q1631) (Or.inl rfl) dX8_pour_185 (fv_8_4 _ _) (ly8_k La0_h) ?_
  refine mx_tr (ly8_R_0_4 La0_h) ?_
  refine mx_bipush dX8_pour_188 ib_40 ?_
  refine mx_iload_n dX8_pour_190 rfl rfl ?_
  refine mx_imul dX8_pour_191 ?_
  refine mx_iload dX8_pour_192 rfl ?_
  refine mx_iadd dX8_pour_194 ?_
  refine mx_iload dX8_pour_195 rfl ?_
  refine mx_iadd dX8_pour_197 ?_
  refine mx_aload_n dX8_pour_198 rfl rfl ?_
  refine mx_get 8 4 (ref := "PrairiePoolModel") cl_8 (Nat.le_of_ble_eq_true rfl) (Or.inl q1631) (Or.inl rfl) dX8_pour_199 (fv_8_4 _ _) (ly8_k La0_h) ?_
  refine mx_tr (ly8_R_0_4 La0_h) ?_
  refine mx_bipush dX8_pour_202 ib_40 ?_
  refine mx_iload_n dX8_pour_204 rfl rfl ?_
  refine mx_imul dX8_pour_205 ?_
  refine mx_iload_n dX8_pour_206 rfl rfl ?_
  refine mx_iadd dX8_pour_207 ?_
  refine mx_iload dX8_pour_208 rfl ?_
  refine mx_iadd dX8_pour_210 ?_
  obtain ⟨k1, H⟩ := H
  refine my_lald dX8_pour_211 rfl (ly8_A_3 La0_h k1) ?_
  obtain ⟨k2, H⟩ := H
  refine my_last dX8_pour_212 rfl (ly8_A_3 La0_h k2) ?_
  refine mx_nmJ  (fun h3 eh3 Xh3 Kh3 Lh3 => ?_)
  have H := H h3 eh3 Xh3
  have La0_h3 := La0_h.ext Xh3
  refine mx_iinc (al' := [some (rv a0), some (iv x1), some (iv x2), some (iv x3), some (iv x4), some (iv x5), some (iv x6), some (iv (x7 + (1 : Int32))), some (iv z0)]) dX8_pour_213 rfl ic_1 rfl ?_
  refine mx_goto (tgt := 158) dX8_pour_216 rfl ?_
  exact mx_weak (al' := [some (rv a0), some (iv x1), some (iv x2), some (iv x3), some (iv x4), some (iv x5), some (iv x6), some (iv (x7 + (1 : Int32))), none]) ⟨rfl, ⟨rfl, ⟨rfl, ⟨rfl, ⟨rfl, ⟨rfl, ⟨rfl, ⟨rfl, trivial⟩⟩⟩⟩⟩⟩⟩⟩ H
theorem dX8_farm_0 : decode mi_X8_farm.2.1 0 = .ok (.aload_n 0, 1) := by decide +kernel
theorem dX8_farm_1 : decode mi_X8_farm.2.1 1 = .ok (.iconst 0, 1) := by decide +kernel
theorem dX8_farm_2 : decode mi_X8_farm.2.1 2 = .ok (.putfield 257, 3) := by decide +kernel
theorem dX8_farm_5 : decode mi_X8_farm.2.1 5 = .ok (.aload_n 0, 1) := by decide +kernel
theorem dX8_farm_6 : decode mi_X8_farm.2.1 6 = .ok (.iconst 0, 1) := by decide +kernel
theorem dX8_farm_7 : decode mi_X8_farm.2.1 7 = .ok (.putfield 260, 3) := by decide +kernel
theorem dX8_farm_10 : decode mi_X8_farm.2.1 10 = .ok (.iload_n 1, 1) := by decide +kernel
theorem dX8_farm_11 : decode mi_X8_farm.2.1 11 = .ok (.i2l, 1) := by decide +kernel
theorem dX8_farm_12 : decode mi_X8_farm.2.1 12 = .ok (.lconst 0, 1) := by decide +kernel
theorem dX8_farm_13 : decode mi_X8_farm.2.1 13 = .ok (.ldc2_w 271, 3) := by decide +kernel
theorem dX8_farm_16 : decode mi_X8_farm.2.1 16 = .ok (.invokestatic 265, 3) := by decide +kernel
theorem dX8_farm_19 : decode mi_X8_farm.2.1 19 = .ok (.ifCond .ne 9, 3) := by decide +kernel
theorem dX8_farm_22 : decode mi_X8_farm.2.1 22 = .ok (.aload_n 0, 1) := by decide +kernel
theorem dX8_farm_23 : decode mi_X8_farm.2.1 23 = .ok (.iconst 2, 1) := by decide +kernel
theorem dX8_farm_24 : decode mi_X8_farm.2.1 24 = .ok (.invokevirtual 297, 3) := by decide +kernel
theorem dX8_farm_27 : decode mi_X8_farm.2.1 27 = .ok (.ireturn, 1) := by decide +kernel
theorem dX8_farm_28 : decode mi_X8_farm.2.1 28 = .ok (.iload_n 2, 1) := by decide +kernel
theorem dX8_farm_29 : decode mi_X8_farm.2.1 29 = .ok (.i2l, 1) := by decide +kernel
theorem dX8_farm_30 : decode mi_X8_farm.2.1 30 = .ok (.lconst 1, 1) := by decide +kernel
theorem dX8_farm_31 : decode mi_X8_farm.2.1 31 = .ok (.ldc2_w 300, 3) := by decide +kernel
theorem dX8_farm_34 : decode mi_X8_farm.2.1 34 = .ok (.invokestatic 265, 3) := by decide +kernel
theorem dX8_farm_37 : decode mi_X8_farm.2.1 37 = .ok (.ifCond .eq 15, 3) := by decide +kernel
theorem dX8_farm_40 : decode mi_X8_farm.2.1 40 = .ok (.iload_n 3, 1) := by decide +kernel
theorem dX8_farm_41 : decode mi_X8_farm.2.1 41 = .ok (.i2l, 1) := by decide +kernel
theorem dX8_farm_42 : decode mi_X8_farm.2.1 42 = .ok (.lconst 0, 1) := by decide +kernel
theorem dX8_farm_43 : decode mi_X8_farm.2.1 43 = .ok (.ldc2_w 302, 3) := by decide +kernel
theorem dX8_farm_46 : decode mi_X8_farm.2.1 46 = .ok (.invokestatic 265, 3) := by decide +kernel
theorem dX8_farm_49 : decode mi_X8_farm.2.1 49 = .ok (.ifCond .ne 9, 3) := by decide +kernel
theorem dX8_farm_52 : decode mi_X8_farm.2.1 52 = .ok (.aload_n 0, 1) := by decide +kernel
theorem dX8_farm_53 : decode mi_X8_farm.2.1 53 = .ok (.iconst 5, 1) := by decide +kernel
theorem dX8_farm_54 : decode mi_X8_farm.2.1 54 = .ok (.invokevirtual 297, 3) := by decide +kernel
theorem dX8_farm_57 : decode mi_X8_farm.2.1 57 = .ok (.ireturn, 1) := by decide +kernel
theorem dX8_farm_58 : decode mi_X8_farm.2.1 58 = .ok (.aload_n 0, 1) := by decide +kernel
theorem dX8_farm_59 : decode mi_X8_farm.2.1 59 = .ok (.getfield 291, 3) := by decide +kernel
theorem dX8_farm_62 : decode mi_X8_farm.2.1 62 = .ok (.bipush 20, 2) := by decide +kernel
theorem dX8_farm_64 : decode mi_X8_farm.2.1 64 = .ok (.if_icmp .ne 10, 3) := by decide +kernel
theorem dX8_farm_67 : decode mi_X8_farm.2.1 67 = .ok (.aload_n 0, 1) := by decide +kernel
theorem dX8_farm_68 : decode mi_X8_farm.2.1 68 = .ok (.bipush 7, 2) := by decide +kernel
theorem dX8_farm_70 : decode mi_X8_farm.2.1 70 = .ok (.invokevirtual 297, 3) := by decide +kernel
theorem dX8_farm_73 : decode mi_X8_farm.2.1 73 = .ok (.ireturn, 1) := by decide +kernel
theorem dX8_farm_74 : decode mi_X8_farm.2.1 74 = .ok (.aload_n 0, 1) := by decide +kernel
theorem dX8_farm_75 : decode mi_X8_farm.2.1 75 = .ok (.getfield 20, 3) := by decide +kernel
theorem dX8_farm_78 : decode mi_X8_farm.2.1 78 = .ok (.aload_n 0, 1) := by decide +kernel
theorem dX8_farm_79 : decode mi_X8_farm.2.1 79 = .ok (.getfield 291, 3) := by decide +kernel
theorem dX8_farm_82 : decode mi_X8_farm.2.1 82 = .ok (.iload_n 1, 1) := by decide +kernel
theorem dX8_farm_83 : decode mi_X8_farm.2.1 83 = .ok (.iastore, 1) := by decide +kernel
theorem dX8_farm_84 : decode mi_X8_farm.2.1 84 = .ok (.aload_n 0, 1) := by decide +kernel
theorem dX8_farm_85 : decode mi_X8_farm.2.1 85 = .ok (.getfield 23, 3) := by decide +kernel
theorem dX8_farm_88 : decode mi_X8_farm.2.1 88 = .ok (.aload_n 0, 1) := by decide +kernel
theorem dX8_farm_89 : decode mi_X8_farm.2.1 89 = .ok (.getfield 291, 3) := by decide +kernel
theorem dX8_farm_92 : decode mi_X8_farm.2.1 92 = .ok (.iload_n 2, 1) := by decide +kernel
theorem dX8_farm_93 : decode mi_X8_farm.2.1 93 = .ok (.iastore, 1) := by decide +kernel
theorem dX8_farm_94 : decode mi_X8_farm.2.1 94 = .ok (.aload_n 0, 1) := by decide +kernel
theorem dX8_farm_95 : decode mi_X8_farm.2.1 95 = .ok (.getfield 26, 3) := by decide +kernel
theorem dX8_farm_98 : decode mi_X8_farm.2.1 98 = .ok (.aload_n 0, 1) := by decide +kernel
theorem dX8_farm_99 : decode mi_X8_farm.2.1 99 = .ok (.getfield 291, 3) := by decide +kernel
theorem dX8_farm_102 : decode mi_X8_farm.2.1 102 = .ok (.iload_n 3, 1) := by decide +kernel
theorem dX8_farm_103 : decode mi_X8_farm.2.1 103 = .ok (.iastore, 1) := by decide +kernel
theorem dX8_farm_104 : decode mi_X8_farm.2.1 104 = .ok (.aload_n 0, 1) := by decide +kernel
theorem dX8_farm_105 : decode mi_X8_farm.2.1 105 = .ok (.dup, 1) := by decide +kernel
theorem dX8_farm_106 : decode mi_X8_farm.2.1 106 = .ok (.getfield 291, 3) := by decide +kernel
theorem dX8_farm_109 : decode mi_X8_farm.2.1 109 = .ok (.iconst 1, 1) := by decide +kernel
theorem dX8_farm_110 : decode mi_X8_farm.2.1 110 = .ok (.iadd, 1) := by decide +kernel
theorem dX8_farm_111 : decode mi_X8_farm.2.1 111 = .ok (.putfield 291, 3) := by decide +kernel
theorem dX8_farm_114 : decode mi_X8_farm.2.1 114 = .ok (.aload_n 0, 1) := by decide +kernel
theorem dX8_farm_115 : decode mi_X8_farm.2.1 115 = .ok (.getfield 291, 3) := by decide +kernel
theorem dX8_farm_118 : decode mi_X8_farm.2.1 118 = .ok (.iconst 1, 1) := by decide +kernel
theorem dX8_farm_119 : decode mi_X8_farm.2.1 119 = .ok (.isub, 1) := by decide +kernel
theorem dX8_farm_120 : decode mi_X8_farm.2.1 120 = .ok (.ireturn, 1) := by decide +kernel
theorem v_X8_farm {G : ma_G} {d : Nat} {a0 : Nat} {x1 : Int32} {x2 : Int32} {x3 : Int32} {h : ah_T} {Q : Option ma_V → ah_T → Prop} {E : Nat → ah_T → Prop} (La0_h : LY8 h a0) (H : ∀ h1 : ah_T, h1 = ah_wI h a0 1 (0 : Int32) → ah_ext h h1 → ∀ h2 : ah_T, h2 = ah_wI h1 a0 0 (0 : Int32) → ah_ext h1 h2 → (x1.toInt64 < (0 : Int64) → ∀ h4 : ah_T, h4 = ah_wI h2 a0 0 (2 : Int32) → ah_ext h2 h4 → Q (some (iv (-1 : Int32))) h4) ∧ (¬ x1.toInt64 < (0 : Int64) → ((5 : Int64) < x1.toInt64 → ∀ h6 : ah_T, h6 = ah_wI h2 a0 0 (2 : Int32) → ah_ext h2 h6 → Q (some (iv (-1 : Int32))) h6) ∧ (¬ (5 : Int64) < x1.toInt64 → (x2.toInt64 < (1 : Int64) → ∀ h8 : ah_T, h8 = ah_wI h2 a0 0 (5 : Int32) → ah_ext h2 h8 → Q (some (iv (-1 : Int32))) h8) ∧ (¬ x2.toInt64 < (1 : Int64) → ((5000 : Int64) < x2.toInt64 → ∀ h10 : ah_T, h10 = ah_wI h2 a0 0 (5 : Int32) → ah_ext h2 h10 → Q (some (iv (-1 : Int32))) h10) ∧ (¬ (5000 : Int64) < x2.toInt64 → (x3.toInt64 < (0 : Int64) → ∀ h12 : ah_T, h12 = ah_wI h2 a0 0 (5 : Int32) → ah_ext h2 h12 → Q (some (iv (-1 : Int32))) h12) ∧ (¬ x3.toInt64 < (0 : Int64) → ((100000 : Int64) < x3.toInt64 → ∀ h14 : ah_T, h14 = ah_wI h2 a0 0 (5 : Int32) → ah_ext h2 h14 → Q (some (iv (-1 : Int32))) h14) ∧ (¬ (100000 : Int64) < x3.toInt64 → (¬ (ah_I h a0 5) = (20 : Int32) → vp_in (ah_I h a0 5) 20 ∧ ∀ h17 : ah_T, h17 = ah_wI h2 (a0 + 4) (ah_I h a0 5).toNatClampNeg x1 → ah_ext h2 h17 → ∀ h18 : ah_T, h18 = ah_wI h17 (a0 + 5) (ah_I h a0 5).toNatClampNeg x2 → ah_ext h17 h18 → ∀ h19 : ah_T, h19 = ah_wI h18 (a0 + 6) (ah_I h a0 5).toNatClampNeg x3 → ah_ext h18 h19 → ∀ h20 : ah_T, h20 = ah_wI h19 a0 5 ((ah_I h a0 5) + (1 : Int32)) → ah_ext h19 h20 → Q (some (iv (((ah_I h a0 5) + (1 : Int32)) - (1 : Int32)))) h20) ∧ ((ah_I h a0 5) = (20 : Int32) → ∀ h21 : ah_T, h21 = ah_wI h2 a0 0 (7 : Int32) → ah_ext h2 h21 → Q (some (iv (-1 : Int32))) h21)))))))) : MX G mi_X8_farm (d + 1) 0 [some (rv a0), some (iv x1), some (iv x2), some (iv x3)] [] h Q E := by
  refine mx_aload_n dX8_farm_0 rfl rfl ?_
  refine mx_iconst dX8_farm_1 ic_0 ?_
  refine mx_putI 8 1 (ref := "PrairiePoolModel") cl_8 (Nat.le_of_ble_eq_true rfl) (Or.inl q1628) (Or.inl rfl) dX8_farm_2 (Or.inl rfl) rfl (ly8_k La0_h) ?_
  refine mx_nmI  (fun h1 eh1 Xh1 Kh1 Lh1 => ?_)
  have H := H h1 eh1 Xh1
  have La0_h1 := La0_h.ext Xh1
  refine mx_aload_n dX8_farm_5 rfl rfl ?_
  refine mx_iconst dX8_farm_6 ic_0 ?_
  refine mx_putI 8 0 (ref := "PrairiePoolModel") cl_8 (Nat.le_of_ble_eq_true rfl) (Or.inl q1627) (Or.inl rfl) dX8_farm_7 (Or.inl rfl) rfl (ly8_k La0_h1) ?_
  refine mx_nmI  (fun h2 eh2 Xh2 Kh2 Lh2 => ?_)
  have H := H h2 eh2 Xh2
  have Kh2 := Kh2.trans Kh1
  have Lh2 := Lh2.trans Lh1
  have La0_h2 := La0_h1.ext Xh2
  refine mx_iload_n dX8_farm_10 rfl rfl ?_
  refine mx_i2l dX8_farm_11 ?_
  refine mx_lconst dX8_farm_12 lc_0 ?_
  refine mx_ldc2 q1995 dX8_farm_13 ?_
  refine mx_callS (y' := mi_X8_isIn) (vs := [jv x1.toInt64, jv (0 : Int64), jv (5 : Int64)]) (st := []) (al' := [some (jv x1.toInt64), none, some (jv (0 : Int64)), none, some (jv (5 : Int64)), none]) S_X8_isIn q1996 dX8_farm_16 rfl rfl (Nat.le_of_ble_eq_true rfl) (Nat.le_of_ble_eq_true rfl) ?_
  refine mx_lload_n dX8_isIn_0 rfl rfl ?_
  refine mx_lload_n dX8_isIn_1 rfl rfl ?_
  refine mx_lif_lt (tgt := 17) dX8_isIn_2 dX8_isIn_3 rfl (fun c3 => ?_) (fun c3 => ?_)
  · have H := H.1 c3
    refine mx_iconst dX8_isIn_17 ic_0 ?_
    refine mx_zretK rfl dX8_isIn_18 (Or.inl rfl) ?_
    refine mx_if_ne (tgt := 28) dX8_farm_19 rfl (fun _ => absurd ‹_› (by decide)) (fun _ => ?_)
    refine mx_aload_n dX8_farm_22 rfl rfl ?_
    refine mx_iconst dX8_farm_23 ic_2 ?_
    refine mx_callV 8 (y' := mi_X8_refuse) (vs := [iv (2 : Int32)]) (st := []) (al' := [some (rv a0), some (iv (2 : Int32))]) cl_8 V_X8_refuse (Or.inl q1999) dX8_farm_24 rfl rfl (Nat.le_of_ble_eq_true rfl) (Nat.le_of_ble_eq_true rfl) (ly8_k La0_h2) ?_
    refine mx_aload_n dX8_refuse_0 rfl rfl ?_
    refine mx_iload_n dX8_refuse_1 rfl rfl ?_
    refine mx_putI 8 0 (ref := "PrairiePoolModel") cl_8 (Nat.le_of_ble_eq_true rfl) (Or.inl q1627) (Or.inl rfl) dX8_refuse_2 (Or.inl rfl) rfl (ly8_k La0_h2) ?_
    refine mx_nmI  (fun h4 eh4 Xh4 Kh4 Lh4 => ?_)
    have H := H h4 eh4 Xh4
    have Kh4 := Kh4.trans Kh2
    have Lh4 := Lh4.trans Lh2
    have La0_h4 := La0_h2.ext Xh4
    refine mx_iconst dX8_refuse_5 ic_m1 ?_
    refine mx_iretK rfl dX8_refuse_6 ?_
    exact mx_iret rfl dX8_farm_27 H
  · have H := H.2 c3
    refine mx_lload_n dX8_isIn_6 rfl rfl ?_
    refine mx_lload dX8_isIn_7 rfl ?_
    refine mx_lif_gt (tgt := 17) dX8_isIn_9 dX8_isIn_10 rfl (fun c5 => ?_) (fun c5 => ?_)
    · have H := H.1 c5
      refine mx_iconst dX8_isIn_17 ic_0 ?_
      refine mx_zretK rfl dX8_isIn_18 (Or.inl rfl) ?_
      refine mx_if_ne (tgt := 28) dX8_farm_19 rfl (fun _ => absurd ‹_› (by decide)) (fun _ => ?_)
      refine mx_aload_n dX8_farm_22 rfl rfl ?_
      refine mx_iconst dX8_farm_23 ic_2 ?_
      refine mx_callV 8 (y' := mi_X8_refuse) (vs := [iv (2 : Int32)]) (st := []) (al' := [some (rv a0), some (iv (2 : Int32))]) cl_8 V_X8_refuse (Or.inl q1999) dX8_farm_24 rfl rfl (Nat.le_of_ble_eq_true rfl) (Nat.le_of_ble_eq_true rfl) (ly8_k La0_h2) ?_
      refine mx_aload_n dX8_refuse_0 rfl rfl ?_
      refine mx_iload_n dX8_refuse_1 rfl rfl ?_
      refine mx_putI 8 0 (ref := "PrairiePoolModel") cl_8 (Nat.le_of_ble_eq_true rfl) (Or.inl q1627) (Or.inl rfl) dX8_refuse_2 (Or.inl rfl) rfl (ly8_k La0_h2) ?_
      refine mx_nmI  (fun h6 eh6 Xh6 Kh6 Lh6 => ?_)
      have H := H h6 eh6 Xh6
      have Kh6 := Kh6.trans Kh2
      have Lh6 := Lh6.trans Lh2
      have La0_h6 := La0_h2.ext Xh6
      refine mx_iconst dX8_refuse_5 ic_m1 ?_
      refine mx_iretK rfl dX8_refuse_6 ?_
      exact mx_iret rfl dX8_farm_27 H
    · have H := H.2 c5
      refine mx_iconst dX8_isIn_13 ic_1 ?_
      refine mx_goto (tgt := 18) dX8_isIn_14 rfl ?_
      refine mx_zretK rfl dX8_isIn_18 (Or.inr rfl) ?_
      refine mx_if_ne (tgt := 28) dX8_farm_19 rfl (fun _ => ?_) (fun _ => absurd ‹_› (by decide))
      refine mx_iload_n dX8_farm_28 rfl rfl ?_
      refine mx_i2l dX8_farm_29 ?_
      refine mx_lconst dX8_farm_30 lc_1 ?_
      refine mx_ldc2 q2003 dX8_farm_31 ?_
      refine mx_callS (y' := mi_X8_isIn) (vs := [jv x2.toInt64, jv (1 : Int64), jv (5000 : Int64)]) (st := []) (al' := [some (jv x2.toInt64), none, some (jv (1 : Int64)), none, some (jv (5000 : Int64)), none]) S_X8_isIn q1996 dX8_farm_34 rfl rfl (Nat.le_of_ble_eq_true rfl) (Nat.le_of_ble_eq_true rfl) ?_
      refine mx_lload_n dX8_isIn_0 rfl rfl ?_
      refine mx_lload_n dX8_isIn_1 rfl rfl ?_
      refine mx_lif_lt (tgt := 17) dX8_isIn_2 dX8_isIn_3 rfl (fun c7 => ?_) (fun c7 => ?_)
      · have H := H.1 c7
        refine mx_iconst dX8_isIn_17 ic_0 ?_
        refine mx_zretK rfl dX8_isIn_18 (Or.inl rfl) ?_
        refine mx_if_eq (tgt := 52) dX8_farm_37 rfl (fun _ => ?_) (fun _ => absurd ‹_› (by decide))
        refine mx_aload_n dX8_farm_52 rfl rfl ?_
        refine mx_iconst dX8_farm_53 ic_5 ?_
        refine mx_callV 8 (y' := mi_X8_refuse) (vs := [iv (5 : Int32)]) (st := []) (al' := [some (rv a0), some (iv (5 : Int32))]) cl_8 V_X8_refuse (Or.inl q1999) dX8_farm_54 rfl rfl (Nat.le_of_ble_eq_true rfl) (Nat.le_of_ble_eq_true rfl) (ly8_k La0_h2) ?_
        refine mx_aload_n dX8_refuse_0 rfl rfl ?_
        refine mx_iload_n dX8_refuse_1 rfl rfl ?_
        refine mx_putI 8 0 (ref := "PrairiePoolModel") cl_8 (Nat.le_of_ble_eq_true rfl) (Or.inl q1627) (Or.inl rfl) dX8_refuse_2 (Or.inl rfl) rfl (ly8_k La0_h2) ?_
        refine mx_nmI  (fun h8 eh8 Xh8 Kh8 Lh8 => ?_)
        have H := H h8 eh8 Xh8
        have Kh8 := Kh8.trans Kh2
        have Lh8 := Lh8.trans Lh2
        have La0_h8 := La0_h2.ext Xh8
        refine mx_iconst dX8_refuse_5 ic_m1 ?_
        refine mx_iretK rfl dX8_refuse_6 ?_
        exact mx_iret rfl dX8_farm_57 H
      · have H := H.2 c7
        refine mx_lload_n dX8_isIn_6 rfl rfl ?_
        refine mx_lload dX8_isIn_7 rfl ?_
        refine mx_lif_gt (tgt := 17) dX8_isIn_9 dX8_isIn_10 rfl (fun c9 => ?_) (fun c9 => ?_)
        · have H := H.1 c9
          refine mx_iconst dX8_isIn_17 ic_0 ?_
          refine mx_zretK rfl dX8_isIn_18 (Or.inl rfl) ?_
          refine mx_if_eq (tgt := 52) dX8_farm_37 rfl (fun _ => ?_) (fun _ => absurd ‹_› (by decide))
          refine mx_aload_n dX8_farm_52 rfl rfl ?_
          refine mx_iconst dX8_farm_53 ic_5 ?_
          refine mx_callV 8 (y' := mi_X8_refuse) (vs := [iv (5 : Int32)]) (st := []) (al' := [some (rv a0), some (iv (5 : Int32))]) cl_8 V_X8_refuse (Or.inl q1999) dX8_farm_54 rfl rfl (Nat.le_of_ble_eq_true rfl) (Nat.le_of_ble_eq_true rfl) (ly8_k La0_h2) ?_
          refine mx_aload_n dX8_refuse_0 rfl rfl ?_
          refine mx_iload_n dX8_refuse_1 rfl rfl ?_
          refine mx_putI 8 0 (ref := "PrairiePoolModel") cl_8 (Nat.le_of_ble_eq_true rfl) (Or.inl q1627) (Or.inl rfl) dX8_refuse_2 (Or.inl rfl) rfl (ly8_k La0_h2) ?_
          refine mx_nmI  (fun h10 eh10 Xh10 Kh10 Lh10 => ?_)
          have H := H h10 eh10 Xh10
          have Kh10 := Kh10.trans Kh2
          have Lh10 := Lh10.trans Lh2
          have La0_h10 := La0_h2.ext Xh10
          refine mx_iconst dX8_refuse_5 ic_m1 ?_
          refine mx_iretK rfl dX8_refuse_6 ?_
          exact mx_iret rfl dX8_farm_57 H
        · have H := H.2 c9
          refine mx_iconst dX8_isIn_13 ic_1 ?_
          refine mx_goto (tgt := 18) dX8_isIn_14 rfl ?_
          refine mx_zretK rfl dX8_isIn_18 (Or.inr rfl) ?_
          refine mx_if_eq (tgt := 52) dX8_farm_37 rfl (fun _ => absurd ‹_› (by decide)) (fun _ => ?_)
          refine mx_iload_n dX8_farm_40 rfl rfl ?_
          refine mx_i2l dX8_farm_41 ?_
          refine mx_lconst dX8_farm_42 lc_0 ?_
          refine mx_ldc2 q2004 dX8_farm_43 ?_
          refine mx_callS (y' := mi_X8_isIn) (vs := [jv x3.toInt64, jv (0 : Int64), jv (100000 : Int64)]) (st := []) (al' := [some (jv x3.toInt64), none, some (jv (0 : Int64)), none, some (jv (100000 : Int64)), none]) S_X8_isIn q1996 dX8_farm_46 rfl rfl (Nat.le_of_ble_eq_true rfl) (Nat.le_of_ble_eq_true rfl) ?_
          refine mx_lload_n dX8_isIn_0 rfl rfl ?_
          refine mx_lload_n dX8_isIn_1 rfl rfl ?_
          refine mx_lif_lt (tgt := 17) dX8_isIn_2 dX8_isIn_3 rfl (fun c11 => ?_) (fun c11 => ?_)
          · have H := H.1 c11
            refine mx_iconst dX8_isIn_17 ic_0 ?_
            refine mx_zretK rfl dX8_isIn_18 (Or.inl rfl) ?_
            refine mx_if_ne (tgt := 58) dX8_farm_49 rfl (fun _ => absurd ‹_› (by decide)) (fun _ => ?_)
            refine mx_aload_n dX8_farm_52 rfl rfl ?_
            refine mx_iconst dX8_farm_53 ic_5 ?_
            refine mx_callV 8 (y' := mi_X8_refuse) (vs := [iv (5 : Int32)]) (st := []) (al' := [some (rv a0), some (iv (5 : Int32))]) cl_8 V_X8_refuse (Or.inl q1999) dX8_farm_54 rfl rfl (Nat.le_of_ble_eq_true rfl) (Nat.le_of_ble_eq_true rfl) (ly8_k La0_h2) ?_
            refine mx_aload_n dX8_refuse_0 rfl rfl ?_
            refine mx_iload_n dX8_refuse_1 rfl rfl ?_
            refine mx_putI 8 0 (ref := "PrairiePoolModel") cl_8 (Nat.le_of_ble_eq_true rfl) (Or.inl q1627) (Or.inl rfl) dX8_refuse_2 (Or.inl rfl) rfl (ly8_k La0_h2) ?_
            refine mx_nmI  (fun h12 eh12 Xh12 Kh12 Lh12 => ?_)
            have H := H h12 eh12 Xh12
            have Kh12 := Kh12.trans Kh2
            have Lh12 := Lh12.trans Lh2
            have La0_h12 := La0_h2.ext Xh12
            refine mx_iconst dX8_refuse_5 ic_m1 ?_
            refine mx_iretK rfl dX8_refuse_6 ?_
            exact mx_iret rfl dX8_farm_57 H
          · have H := H.2 c11
            refine mx_lload_n dX8_isIn_6 rfl rfl ?_
            refine mx_lload dX8_isIn_7 rfl ?_
            refine mx_lif_gt (tgt := 17) dX8_isIn_9 dX8_isIn_10 rfl (fun c13 => ?_) (fun c13 => ?_)
            · have H := H.1 c13
              refine mx_iconst dX8_isIn_17 ic_0 ?_
              refine mx_zretK rfl dX8_isIn_18 (Or.inl rfl) ?_
              refine mx_if_ne (tgt := 58) dX8_farm_49 rfl (fun _ => absurd ‹_› (by decide)) (fun _ => ?_)
              refine mx_aload_n dX8_farm_52 rfl rfl ?_
              refine mx_iconst dX8_farm_53 ic_5 ?_
              refine mx_callV 8 (y' := mi_X8_refuse) (vs := [iv (5 : Int32)]) (st := []) (al' := [some (rv a0), some (iv (5 : Int32))]) cl_8 V_X8_refuse (Or.inl q1999) dX8_farm_54 rfl rfl (Nat.le_of_ble_eq_true rfl) (Nat.le_of_ble_eq_true rfl) (ly8_k La0_h2) ?_
              refine mx_aload_n dX8_refuse_0 rfl rfl ?_
              refine mx_iload_n dX8_refuse_1 rfl rfl ?_
              refine mx_putI 8 0 (ref := "PrairiePoolModel") cl_8 (Nat.le_of_ble_eq_true rfl) (Or.inl q1627) (Or.inl rfl) dX8_refuse_2 (Or.inl rfl) rfl (ly8_k La0_h2) ?_
              refine mx_nmI  (fun h14 eh14 Xh14 Kh14 Lh14 => ?_)
              have H := H h14 eh14 Xh14
              have Kh14 := Kh14.trans Kh2
              have Lh14 := Lh14.trans Lh2
              have La0_h14 := La0_h2.ext Xh14
              refine mx_iconst dX8_refuse_5 ic_m1 ?_
              refine mx_iretK rfl dX8_refuse_6 ?_
              exact mx_iret rfl dX8_farm_57 H
            · have H := H.2 c13
              refine mx_iconst dX8_isIn_13 ic_1 ?_
              refine mx_goto (tgt := 18) dX8_isIn_14 rfl ?_
              refine mx_zretK rfl dX8_isIn_18 (Or.inr rfl) ?_
              refine mx_if_ne (tgt := 58) dX8_farm_49 rfl (fun _ => ?_) (fun _ => absurd ‹_› (by decide))
              refine mx_aload_n dX8_farm_58 rfl rfl ?_
              refine mx_get 8 5 (ref := "PrairiePoolModel") cl_8 (Nat.le_of_ble_eq_true rfl) (Or.inl q1632) (Or.inl rfl) dX8_farm_59 (fv_8_5 _ _) (ly8_k La0_h2) ?_
              refine mx_ti ((ah_skIK eh2 (by decide)).trans (ah_skIK eh1 (by decide))) ?_
              refine mx_bipush dX8_farm_62 ib_20 ?_
              refine mx_icmp_ne (tgt := 74) dX8_farm_64 rfl (fun c15 => ?_) (fun c15 => ?_)
              · have H := H.1 c15
                refine mx_aload_n dX8_farm_74 rfl rfl ?_
                refine mx_get 8 11 (ref := "PrairiePoolModel") cl_8 (Nat.le_of_ble_eq_true rfl) (Or.inl q1638) (Or.inl rfl) dX8_farm_75 (fv_8_11 _ _) (ly8_k La0_h2) ?_
                refine mx_tr (ly8_R_0_11 La0_h2) ?_
                refine mx_aload_n dX8_farm_78 rfl rfl ?_
                refine mx_get 8 5 (ref := "PrairiePoolModel") cl_8 (Nat.le_of_ble_eq_true rfl) (Or.inl q1632) (Or.inl rfl) dX8_farm_79 (fv_8_5 _ _) (ly8_k La0_h2) ?_
                refine mx_ti ((ah_skIK eh2 (by decide)).trans (ah_skIK eh1 (by decide))) ?_
                refine mx_iload_n dX8_farm_82 rfl rfl ?_
                obtain ⟨k16, H⟩ := H
                refine my_iast dX8_farm_83 rfl (ly8_A_4 La0_h2 k16) ?_
                refine mx_nmI  (fun h17 eh17 Xh17 Kh17 Lh17 => ?_)
                have H := H h17 eh17 Xh17
                have Kh17 := Kh17.trans Kh2
                have Lh17 := Lh17.trans Lh2
                have La0_h17 := La0_h2.ext Xh17
                refine mx_aload_n dX8_farm_84 rfl rfl ?_
                refine mx_get 8 12 (ref := "PrairiePoolModel") cl_8 (Nat.le_of_ble_eq_true rfl) (Or.inl q1639) (Or.inl rfl) dX8_farm_85 (fv_8_12 _ _) (ly8_k La0_h17) ?_
                refine mx_tr (ly8_R_0_12 La0_h17) ?_
                refine mx_aload_n dX8_farm_88 rfl rfl ?_
                refine mx_get 8 5 (ref := "PrairiePoolModel") cl_8 (Nat.le_of_ble_eq_true rfl) (Or.inl q1632) (Or.inl rfl) dX8_farm_89 (fv_8_5 _ _) (ly8_k La0_h17) ?_
                refine mx_ti (((ah_skIA eh17 (by omega)).trans (ah_skIK eh2 (by decide))).trans (ah_skIK eh1 (by decide))) ?_
                refine mx_iload_n dX8_farm_92 rfl rfl ?_
                refine my_iast dX8_farm_93 rfl (ly8_A_5 La0_h17 k16) ?_
                refine mx_nmI  (fun h18 eh18 Xh18 Kh18 Lh18 => ?_)
                have H := H h18 eh18 Xh18
                have Kh18 := Kh18.trans Kh17
                have Lh18 := Lh18.trans Lh17
                have La0_h18 := La0_h17.ext Xh18
                refine mx_aload_n dX8_farm_94 rfl rfl ?_
                refine mx_get 8 13 (ref := "PrairiePoolModel") cl_8 (Nat.le_of_ble_eq_true rfl) (Or.inl q1640) (Or.inl rfl) dX8_farm_95 (fv_8_13 _ _) (ly8_k La0_h18) ?_
                refine mx_tr (ly8_R_0_13 La0_h18) ?_
                refine mx_aload_n dX8_farm_98 rfl rfl ?_
                refine mx_get 8 5 (ref := "PrairiePoolModel") cl_8 (Nat.le_of_ble_eq_true rfl) (Or.inl q1632) (Or.inl rfl) dX8_farm_99 (fv_8_5 _ _) (ly8_k La0_h18) ?_
                refine mx_ti ((((ah_skIA eh18 (by omega)).trans (ah_skIA eh17 (by omega))).trans (ah_skIK eh2 (by decide))).trans (ah_skIK eh1 (by decide))) ?_
                refine mx_iload_n dX8_farm_102 rfl rfl ?_
                refine my_iast dX8_farm_103 rfl (ly8_A_6 La0_h18 k16) ?_
                refine mx_nmI  (fun h19 eh19 Xh19 Kh19 Lh19 => ?_)
                have H := H h19 eh19 Xh19
                have Kh19 := Kh19.trans Kh18
                have Lh19 := Lh19.trans Lh18
                have La0_h19 := La0_h18.ext Xh19
                refine mx_aload_n dX8_farm_104 rfl rfl ?_
                refine mx_dup_r dX8_farm_105 ?_
                refine mx_get 8 5 (ref := "PrairiePoolModel") cl_8 (Nat.le_of_ble_eq_true rfl) (Or.inl q1632) (Or.inl rfl) dX8_farm_106 (fv_8_5 _ _) (ly8_k La0_h19) ?_
                refine mx_ti (((((ah_skIA eh19 (by omega)).trans (ah_skIA eh18 (by omega))).trans (ah_skIA eh17 (by omega))).trans (ah_skIK eh2 (by decide))).trans (ah_skIK eh1 (by decide))) ?_
                refine mx_iconst dX8_farm_109 ic_1 ?_
                refine mx_iadd dX8_farm_110 ?_
                refine mx_putI 8 5 (ref := "PrairiePoolModel") cl_8 (Nat.le_of_ble_eq_true rfl) (Or.inl q1632) (Or.inl rfl) dX8_farm_111 (Or.inl rfl) rfl (ly8_k La0_h19) ?_
                refine mx_nmI  (fun h20 eh20 Xh20 Kh20 Lh20 => ?_)
                have H := H h20 eh20 Xh20
                have Kh20 := Kh20.trans Kh19
                have Lh20 := Lh20.trans Lh19
                have La0_h20 := La0_h19.ext Xh20
                refine mx_aload_n dX8_farm_114 rfl rfl ?_
                refine mx_get 8 5 (ref := "PrairiePoolModel") cl_8 (Nat.le_of_ble_eq_true rfl) (Or.inl q1632) (Or.inl rfl) dX8_farm_115 (fv_8_5 _ _) (ly8_k La0_h20) ?_
                refine mx_ti (ah_hitI eh20) ?_
                refine mx_iconst dX8_farm_118 ic_1 ?_
                refine mx_isub dX8_farm_119 ?_
                exact mx_iret rfl dX8_farm_120 H
              · have H := H.2 c15
                refine mx_aload_n dX8_farm_67 rfl rfl ?_
                refine mx_bipush dX8_farm_68 ib_7 ?_
                refine mx_callV 8 (y' := mi_X8_refuse) (vs := [iv (7 : Int32)]) (st := []) (al' := [some (rv a0), some (iv (7 : Int32))]) cl_8 V_X8_refuse (Or.inl q1999) dX8_farm_70 rfl rfl (Nat.le_of_ble_eq_true rfl) (Nat.le_of_ble_eq_true rfl) (ly8_k La0_h2) ?_
                refine mx_aload_n dX8_refuse_0 rfl rfl ?_
                refine mx_iload_n dX8_refuse_1 rfl rfl ?_
                refine mx_putI 8 0 (ref := "PrairiePoolModel") cl_8 (Nat.le_of_ble_eq_true rfl) (Or.inl q1627) (Or.inl rfl) dX8_refuse_2 (Or.inl rfl) rfl (ly8_k La0_h2) ?_
                refine mx_nmI  (fun h21 eh21 Xh21 Kh21 Lh21 => ?_)
                have H := H h21 eh21 Xh21
                have Kh21 := Kh21.trans Kh2
                have Lh21 := Lh21.trans Lh2
                have La0_h21 := La0_h2.ext Xh21
                refine mx_iconst dX8_refuse_5 ic_m1 ?_
                refine mx_iretK rfl dX8_refuse_6 ?_
                exact mx_iret rfl dX8_farm_73 H
theorem v_X8_isIn {G : ma_G} {d : Nat} {x0 : Int64} {x2 : Int64} {x4 : Int64} {h : ah_T} {Q : Option ma_V → ah_T → Prop} {E : Nat → ah_T → Prop}  (H : (x0 < x2 → Q (some (iv (0 : Int32))) h) ∧ (¬ x0 < x2 → (x4 < x0 → Q (some (iv (0 : Int32))) h) ∧ (¬ x4 < x0 → Q (some (iv (1 : Int32))) h))) : MX G mi_X8_isIn d 0 [some (jv x0), none, some (jv x2), none, some (jv x4), none] [] h Q E := by
  refine mx_lload_n dX8_isIn_0 rfl rfl ?_
  refine mx_lload_n dX8_isIn_1 rfl rfl ?_
  refine mx_lif_lt (tgt := 17) dX8_isIn_2 dX8_isIn_3 rfl (fun c1 => ?_) (fun c1 => ?_)
  · have H := H.1 c1
    refine mx_iconst dX8_isIn_17 ic_0 ?_
    exact mx_zret rfl dX8_isIn_18 (Or.inl rfl) H
  · have H := H.2 c1
    refine mx_lload_n dX8_isIn_6 rfl rfl ?_
    refine mx_lload dX8_isIn_7 rfl ?_
    refine mx_lif_gt (tgt := 17) dX8_isIn_9 dX8_isIn_10 rfl (fun c2 => ?_) (fun c2 => ?_)
    · have H := H.1 c2
      refine mx_iconst dX8_isIn_17 ic_0 ?_
      exact mx_zret rfl dX8_isIn_18 (Or.inl rfl) H
    · have H := H.2 c2
      refine mx_iconst dX8_isIn_13 ic_1 ?_
      refine mx_goto (tgt := 18) dX8_isIn_14 rfl ?_
      exact mx_zret rfl dX8_isIn_18 (Or.inr rfl) H
theorem v_X8_refuse {G : ma_G} {d : Nat} {a0 : Nat} {x1 : Int32} {h : ah_T} {Q : Option ma_V → ah_T → Prop} {E : Nat → ah_T → Prop} (La0_h : LY8 h a0) (H : ∀ h1 : ah_T, h1 = ah_wI h a0 0 x1 → ah_ext h h1 → Q (some (iv (-1 : Int32))) h1) : MX G mi_X8_refuse d 0 [some (rv a0), some (iv x1)] [] h Q E := by
  refine mx_aload_n dX8_refuse_0 rfl rfl ?_
  refine mx_iload_n dX8_refuse_1 rfl rfl ?_
  refine mx_putI 8 0 (ref := "PrairiePoolModel") cl_8 (Nat.le_of_ble_eq_true rfl) (Or.inl q1627) (Or.inl rfl) dX8_refuse_2 (Or.inl rfl) rfl (ly8_k La0_h) ?_
  refine mx_nmI  (fun h1 eh1 Xh1 Kh1 Lh1 => ?_)
  have H := H h1 eh1 Xh1
  have La0_h1 := La0_h.ext Xh1
  refine mx_iconst dX8_refuse_5 ic_m1 ?_
  exact mx_iret rfl dX8_refuse_6 H
theorem dX8_elevator_0 : decode mi_X8_elevator.2.1 0 = .ok (.aload_n 0, 1) := by decide +kernel
theorem dX8_elevator_1 : decode mi_X8_elevator.2.1 1 = .ok (.iconst 0, 1) := by decide +kernel
theorem dX8_elevator_2 : decode mi_X8_elevator.2.1 2 = .ok (.putfield 257, 3) := by decide +kernel
theorem dX8_elevator_5 : decode mi_X8_elevator.2.1 5 = .ok (.aload_n 0, 1) := by decide +kernel
theorem dX8_elevator_6 : decode mi_X8_elevator.2.1 6 = .ok (.iconst 0, 1) := by decide +kernel
theorem dX8_elevator_7 : decode mi_X8_elevator.2.1 7 = .ok (.putfield 260, 3) := by decide +kernel
theorem dX8_elevator_10 : decode mi_X8_elevator.2.1 10 = .ok (.iload_n 1, 1) := by decide +kernel
theorem dX8_elevator_11 : decode mi_X8_elevator.2.1 11 = .ok (.i2l, 1) := by decide +kernel
theorem dX8_elevator_12 : decode mi_X8_elevator.2.1 12 = .ok (.lconst 0, 1) := by decide +kernel
theorem dX8_elevator_13 : decode mi_X8_elevator.2.1 13 = .ok (.ldc2_w 271, 3) := by decide +kernel
theorem dX8_elevator_16 : decode mi_X8_elevator.2.1 16 = .ok (.invokestatic 265, 3) := by decide +kernel
theorem dX8_elevator_19 : decode mi_X8_elevator.2.1 19 = .ok (.ifCond .ne 9, 3) := by decide +kernel
theorem dX8_elevator_22 : decode mi_X8_elevator.2.1 22 = .ok (.aload_n 0, 1) := by decide +kernel
theorem dX8_elevator_23 : decode mi_X8_elevator.2.1 23 = .ok (.iconst 2, 1) := by decide +kernel
theorem dX8_elevator_24 : decode mi_X8_elevator.2.1 24 = .ok (.invokevirtual 297, 3) := by decide +kernel
theorem dX8_elevator_27 : decode mi_X8_elevator.2.1 27 = .ok (.ireturn, 1) := by decide +kernel
theorem dX8_elevator_28 : decode mi_X8_elevator.2.1 28 = .ok (.iload_n 2, 1) := by decide +kernel
theorem dX8_elevator_29 : decode mi_X8_elevator.2.1 29 = .ok (.i2l, 1) := by decide +kernel
theorem dX8_elevator_30 : decode mi_X8_elevator.2.1 30 = .ok (.lconst 1, 1) := by decide +kernel
theorem dX8_elevator_31 : decode mi_X8_elevator.2.1 31 = .ok (.ldc2_w 304, 3) := by decide +kernel
theorem dX8_elevator_34 : decode mi_X8_elevator.2.1 34 = .ok (.invokestatic 265, 3) := by decide +kernel
theorem dX8_elevator_37 : decode mi_X8_elevator.2.1 37 = .ok (.ifCond .ne 9, 3) := by decide +kernel
theorem dX8_elevator_40 : decode mi_X8_elevator.2.1 40 = .ok (.aload_n 0, 1) := by decide +kernel
theorem dX8_elevator_41 : decode mi_X8_elevator.2.1 41 = .ok (.iconst 5, 1) := by decide +kernel
theorem dX8_elevator_42 : decode mi_X8_elevator.2.1 42 = .ok (.invokevirtual 297, 3) := by decide +kernel
theorem dX8_elevator_45 : decode mi_X8_elevator.2.1 45 = .ok (.ireturn, 1) := by decide +kernel
theorem dX8_elevator_46 : decode mi_X8_elevator.2.1 46 = .ok (.aload_n 0, 1) := by decide +kernel
theorem dX8_elevator_47 : decode mi_X8_elevator.2.1 47 = .ok (.getfield 294, 3) := by decide +kernel
theorem dX8_elevator_50 : decode mi_X8_elevator.2.1 50 = .ok (.bipush 8, 2) := by decide +kernel
theorem dX8_elevator_52 : decode mi_X8_elevator.2.1 52 = .ok (.if_icmp .ne 10, 3) := by decide +kernel
theorem dX8_elevator_55 : decode mi_X8_elevator.2.1 55 = .ok (.aload_n 0, 1) := by decide +kernel
theorem dX8_elevator_56 : decode mi_X8_elevator.2.1 56 = .ok (.bipush 7, 2) := by decide +kernel
theorem dX8_elevator_58 : decode mi_X8_elevator.2.1 58 = .ok (.invokevirtual 297, 3) := by decide +kernel
theorem dX8_elevator_61 : decode mi_X8_elevator.2.1 61 = .ok (.ireturn, 1) := by decide +kernel
theorem dX8_elevator_62 : decode mi_X8_elevator.2.1 62 = .ok (.aload_n 0, 1) := by decide +kernel
theorem dX8_elevator_63 : decode mi_X8_elevator.2.1 63 = .ok (.getfield 29, 3) := by decide +kernel
theorem dX8_elevator_66 : decode mi_X8_elevator.2.1 66 = .ok (.aload_n 0, 1) := by decide +kernel
theorem dX8_elevator_67 : decode mi_X8_elevator.2.1 67 = .ok (.getfield 294, 3) := by decide +kernel
theorem dX8_elevator_70 : decode mi_X8_elevator.2.1 70 = .ok (.iload_n 1, 1) := by decide +kernel
theorem dX8_elevator_71 : decode mi_X8_elevator.2.1 71 = .ok (.iastore, 1) := by decide +kernel
theorem dX8_elevator_72 : decode mi_X8_elevator.2.1 72 = .ok (.aload_n 0, 1) := by decide +kernel
theorem dX8_elevator_73 : decode mi_X8_elevator.2.1 73 = .ok (.getfield 32, 3) := by decide +kernel
theorem dX8_elevator_76 : decode mi_X8_elevator.2.1 76 = .ok (.aload_n 0, 1) := by decide +kernel
theorem dX8_elevator_77 : decode mi_X8_elevator.2.1 77 = .ok (.getfield 294, 3) := by decide +kernel
theorem dX8_elevator_80 : decode mi_X8_elevator.2.1 80 = .ok (.iload_n 2, 1) := by decide +kernel
theorem dX8_elevator_81 : decode mi_X8_elevator.2.1 81 = .ok (.iastore, 1) := by decide +kernel
theorem dX8_elevator_82 : decode mi_X8_elevator.2.1 82 = .ok (.aload_n 0, 1) := by decide +kernel
theorem dX8_elevator_83 : decode mi_X8_elevator.2.1 83 = .ok (.dup, 1) := by decide +kernel
theorem dX8_elevator_84 : decode mi_X8_elevator.2.1 84 = .ok (.getfield 294, 3) := by decide +kernel
theorem dX8_elevator_87 : decode mi_X8_elevator.2.1 87 = .ok (.iconst 1, 1) := by decide +kernel
theorem dX8_elevator_88 : decode mi_X8_elevator.2.1 88 = .ok (.iadd, 1) := by decide +kernel
theorem dX8_elevator_89 : decode mi_X8_elevator.2.1 89 = .ok (.putfield 294, 3) := by decide +kernel
theorem dX8_elevator_92 : decode mi_X8_elevator.2.1 92 = .ok (.aload_n 0, 1) := by decide +kernel
theorem dX8_elevator_93 : decode mi_X8_elevator.2.1 93 = .ok (.getfield 294, 3) := by decide +kernel
theorem dX8_elevator_96 : decode mi_X8_elevator.2.1 96 = .ok (.iconst 1, 1) := by decide +kernel
theorem dX8_elevator_97 : decode mi_X8_elevator.2.1 97 = .ok (.isub, 1) := by decide +kernel
theorem dX8_elevator_98 : decode mi_X8_elevator.2.1 98 = .ok (.ireturn, 1) := by decide +kernel
theorem v_X8_elevator {G : ma_G} {d : Nat} {a0 : Nat} {x1 : Int32} {x2 : Int32} {h : ah_T} {Q : Option ma_V → ah_T → Prop} {E : Nat → ah_T → Prop} (La0_h : LY8 h a0) (H : ∀ h1 : ah_T, h1 = ah_wI h a0 1 (0 : Int32) → ah_ext h h1 → ∀ h2 : ah_T, h2 = ah_wI h1 a0 0 (0 : Int32) → ah_ext h1 h2 → (x1.toInt64 < (0 : Int64) → ∀ h4 : ah_T, h4 = ah_wI h2 a0 0 (2 : Int32) → ah_ext h2 h4 → Q (some (iv (-1 : Int32))) h4) ∧ (¬ x1.toInt64 < (0 : Int64) → ((5 : Int64) < x1.toInt64 → ∀ h6 : ah_T, h6 = ah_wI h2 a0 0 (2 : Int32) → ah_ext h2 h6 → Q (some (iv (-1 : Int32))) h6) ∧ (¬ (5 : Int64) < x1.toInt64 → (x2.toInt64 < (1 : Int64) → ∀ h8 : ah_T, h8 = ah_wI h2 a0 0 (5 : Int32) → ah_ext h2 h8 → Q (some (iv (-1 : Int32))) h8) ∧ (¬ x2.toInt64 < (1 : Int64) → ((1000000 : Int64) < x2.toInt64 → ∀ h10 : ah_T, h10 = ah_wI h2 a0 0 (5 : Int32) → ah_ext h2 h10 → Q (some (iv (-1 : Int32))) h10) ∧ (¬ (1000000 : Int64) < x2.toInt64 → (¬ (ah_I h a0 6) = (8 : Int32) → vp_in (ah_I h a0 6) 8 ∧ ∀ h13 : ah_T, h13 = ah_wI h2 (a0 + 7) (ah_I h a0 6).toNatClampNeg x1 → ah_ext h2 h13 → ∀ h14 : ah_T, h14 = ah_wI h13 (a0 + 8) (ah_I h a0 6).toNatClampNeg x2 → ah_ext h13 h14 → ∀ h15 : ah_T, h15 = ah_wI h14 a0 6 ((ah_I h a0 6) + (1 : Int32)) → ah_ext h14 h15 → Q (some (iv (((ah_I h a0 6) + (1 : Int32)) - (1 : Int32)))) h15) ∧ ((ah_I h a0 6) = (8 : Int32) → ∀ h16 : ah_T, h16 = ah_wI h2 a0 0 (7 : Int32) → ah_ext h2 h16 → Q (some (iv (-1 : Int32))) h16)))))) : MX G mi_X8_elevator (d + 1) 0 [some (rv a0), some (iv x1), some (iv x2)] [] h Q E := by
  refine mx_aload_n dX8_elevator_0 rfl rfl ?_
  refine mx_iconst dX8_elevator_1 ic_0 ?_
  refine mx_putI 8 1 (ref := "PrairiePoolModel") cl_8 (Nat.le_of_ble_eq_true rfl) (Or.inl q1628) (Or.inl rfl) dX8_elevator_2 (Or.inl rfl) rfl (ly8_k La0_h) ?_
  refine mx_nmI  (fun h1 eh1 Xh1 Kh1 Lh1 => ?_)
  have H := H h1 eh1 Xh1
  have La0_h1 := La0_h.ext Xh1
  refine mx_aload_n dX8_elevator_5 rfl rfl ?_
  refine mx_iconst dX8_elevator_6 ic_0 ?_
  refine mx_putI 8 0 (ref := "PrairiePoolModel") cl_8 (Nat.le_of_ble_eq_true rfl) (Or.inl q1627) (Or.inl rfl) dX8_elevator_7 (Or.inl rfl) rfl (ly8_k La0_h1) ?_
  refine mx_nmI  (fun h2 eh2 Xh2 Kh2 Lh2 => ?_)
  have H := H h2 eh2 Xh2
  have Kh2 := Kh2.trans Kh1
  have Lh2 := Lh2.trans Lh1
  have La0_h2 := La0_h1.ext Xh2
  refine mx_iload_n dX8_elevator_10 rfl rfl ?_
  refine mx_i2l dX8_elevator_11 ?_
  refine mx_lconst dX8_elevator_12 lc_0 ?_
  refine mx_ldc2 q1995 dX8_elevator_13 ?_
  refine mx_callS (y' := mi_X8_isIn) (vs := [jv x1.toInt64, jv (0 : Int64), jv (5 : Int64)]) (st := []) (al' := [some (jv x1.toInt64), none, some (jv (0 : Int64)), none, some (jv (5 : Int64)), none]) S_X8_isIn q1996 dX8_elevator_16 rfl rfl (Nat.le_of_ble_eq_true rfl) (Nat.le_of_ble_eq_true rfl) ?_
  refine mx_lload_n dX8_isIn_0 rfl rfl ?_
  refine mx_lload_n dX8_isIn_1 rfl rfl ?_
  refine mx_lif_lt (tgt := 17) dX8_isIn_2 dX8_isIn_3 rfl (fun c3 => ?_) (fun c3 => ?_)
  · have H := H.1 c3
    refine mx_iconst dX8_isIn_17 ic_0 ?_
    refine mx_zretK rfl dX8_isIn_18 (Or.inl rfl) ?_
    refine mx_if_ne (tgt := 28) dX8_elevator_19 rfl (fun _ => absurd ‹_› (by decide)) (fun _ => ?_)
    refine mx_aload_n dX8_elevator_22 rfl rfl ?_
    refine mx_iconst dX8_elevator_23 ic_2 ?_
    refine mx_callV 8 (y' := mi_X8_refuse) (vs := [iv (2 : Int32)]) (st := []) (al' := [some (rv a0), some (iv (2 : Int32))]) cl_8 V_X8_refuse (Or.inl q1999) dX8_elevator_24 rfl rfl (Nat.le_of_ble_eq_true rfl) (Nat.le_of_ble_eq_true rfl) (ly8_k La0_h2) ?_
    refine mx_aload_n dX8_refuse_0 rfl rfl ?_
    refine mx_iload_n dX8_refuse_1 rfl rfl ?_
    refine mx_putI 8 0 (ref := "PrairiePoolModel") cl_8 (Nat.le_of_ble_eq_true rfl) (Or.inl q1627) (Or.inl rfl) dX8_refuse_2 (Or.inl rfl) rfl (ly8_k La0_h2) ?_
    refine mx_nmI  (fun h4 eh4 Xh4 Kh4 Lh4 => ?_)
    have H := H h4 eh4 Xh4
    have Kh4 := Kh4.trans Kh2
    have Lh4 := Lh4.trans Lh2
    have La0_h4 := La0_h2.ext Xh4
    refine mx_iconst dX8_refuse_5 ic_m1 ?_
    refine mx_iretK rfl dX8_refuse_6 ?_
    exact mx_iret rfl dX8_elevator_27 H
  · have H := H.2 c3
    refine mx_lload_n dX8_isIn_6 rfl rfl ?_
    refine mx_lload dX8_isIn_7 rfl ?_
    refine mx_lif_gt (tgt := 17) dX8_isIn_9 dX8_isIn_10 rfl (fun c5 => ?_) (fun c5 => ?_)
    · have H := H.1 c5
      refine mx_iconst dX8_isIn_17 ic_0 ?_
      refine mx_zretK rfl dX8_isIn_18 (Or.inl rfl) ?_
      refine mx_if_ne (tgt := 28) dX8_elevator_19 rfl (fun _ => absurd ‹_› (by decide)) (fun _ => ?_)
      refine mx_aload_n dX8_elevator_22 rfl rfl ?_
      refine mx_iconst dX8_elevator_23 ic_2 ?_
      refine mx_callV 8 (y' := mi_X8_refuse) (vs := [iv (2 : Int32)]) (st := []) (al' := [some (rv a0), some (iv (2 : Int32))]) cl_8 V_X8_refuse (Or.inl q1999) dX8_elevator_24 rfl rfl (Nat.le_of_ble_eq_true rfl) (Nat.le_of_ble_eq_true rfl) (ly8_k La0_h2) ?_
      refine mx_aload_n dX8_refuse_0 rfl rfl ?_
      refine mx_iload_n dX8_refuse_1 rfl rfl ?_
      refine mx_putI 8 0 (ref := "PrairiePoolModel") cl_8 (Nat.le_of_ble_eq_true rfl) (Or.inl q1627) (Or.inl rfl) dX8_refuse_2 (Or.inl rfl) rfl (ly8_k La0_h2) ?_
      refine mx_nmI  (fun h6 eh6 Xh6 Kh6 Lh6 => ?_)
      have H := H h6 eh6 Xh6
      have Kh6 := Kh6.trans Kh2
      have Lh6 := Lh6.trans Lh2
      have La0_h6 := La0_h2.ext Xh6
      refine mx_iconst dX8_refuse_5 ic_m1 ?_
      refine mx_iretK rfl dX8_refuse_6 ?_
      exact mx_iret rfl dX8_elevator_27 H
    · have H := H.2 c5
      refine mx_iconst dX8_isIn_13 ic_1 ?_
      refine mx_goto (tgt := 18) dX8_isIn_14 rfl ?_
      refine mx_zretK rfl dX8_isIn_18 (Or.inr rfl) ?_
      refine mx_if_ne (tgt := 28) dX8_elevator_19 rfl (fun _ => ?_) (fun _ => absurd ‹_› (by decide))
      refine mx_iload_n dX8_elevator_28 rfl rfl ?_
      refine mx_i2l dX8_elevator_29 ?_
      refine mx_lconst dX8_elevator_30 lc_1 ?_
      refine mx_ldc2 q2009 dX8_elevator_31 ?_
      refine mx_callS (y' := mi_X8_isIn) (vs := [jv x2.toInt64, jv (1 : Int64), jv (1000000 : Int64)]) (st := []) (al' := [some (jv x2.toInt64), none, some (jv (1 : Int64)), none, some (jv (1000000 : Int64)), none]) S_X8_isIn q1996 dX8_elevator_34 rfl rfl (Nat.le_of_ble_eq_true rfl) (Nat.le_of_ble_eq_true rfl) ?_
      refine mx_lload_n dX8_isIn_0 rfl rfl ?_
      refine mx_lload_n dX8_isIn_1 rfl rfl ?_
      refine mx_lif_lt (tgt := 17) dX8_isIn_2 dX8_isIn_3 rfl (fun c7 => ?_) (fun c7 => ?_)
      · have H := H.1 c7
        refine mx_iconst dX8_isIn_17 ic_0 ?_
        refine mx_zretK rfl dX8_isIn_18 (Or.inl rfl) ?_
        refine mx_if_ne (tgt := 46) dX8_elevator_37 rfl (fun _ => absurd ‹_› (by decide)) (fun _ => ?_)
        refine mx_aload_n dX8_elevator_40 rfl rfl ?_
        refine mx_iconst dX8_elevator_41 ic_5 ?_
        refine mx_callV 8 (y' := mi_X8_refuse) (vs := [iv (5 : Int32)]) (st := []) (al' := [some (rv a0), some (iv (5 : Int32))]) cl_8 V_X8_refuse (Or.inl q1999) dX8_elevator_42 rfl rfl (Nat.le_of_ble_eq_true rfl) (Nat.le_of_ble_eq_true rfl) (ly8_k La0_h2) ?_
        refine mx_aload_n dX8_refuse_0 rfl rfl ?_
        refine mx_iload_n dX8_refuse_1 rfl rfl ?_
        refine mx_putI 8 0 (ref := "PrairiePoolModel") cl_8 (Nat.le_of_ble_eq_true rfl) (Or.inl q1627) (Or.inl rfl) dX8_refuse_2 (Or.inl rfl) rfl (ly8_k La0_h2) ?_
        refine mx_nmI  (fun h8 eh8 Xh8 Kh8 Lh8 => ?_)
        have H := H h8 eh8 Xh8
        have Kh8 := Kh8.trans Kh2
        have Lh8 := Lh8.trans Lh2
        have La0_h8 := La0_h2.ext Xh8
        refine mx_iconst dX8_refuse_5 ic_m1 ?_
        refine mx_iretK rfl dX8_refuse_6 ?_
        exact mx_iret rfl dX8_elevator_45 H
      · have H := H.2 c7
        refine mx_lload_n dX8_isIn_6 rfl rfl ?_
        refine mx_lload dX8_isIn_7 rfl ?_
        refine mx_lif_gt (tgt := 17) dX8_isIn_9 dX8_isIn_10 rfl (fun c9 => ?_) (fun c9 => ?_)
        · have H := H.1 c9
          refine mx_iconst dX8_isIn_17 ic_0 ?_
          refine mx_zretK rfl dX8_isIn_18 (Or.inl rfl) ?_
          refine mx_if_ne (tgt := 46) dX8_elevator_37 rfl (fun _ => absurd ‹_› (by decide)) (fun _ => ?_)
          refine mx_aload_n dX8_elevator_40 rfl rfl ?_
          refine mx_iconst dX8_elevator_41 ic_5 ?_
          refine mx_callV 8 (y' := mi_X8_refuse) (vs := [iv (5 : Int32)]) (st := []) (al' := [some (rv a0), some (iv (5 : Int32))]) cl_8 V_X8_refuse (Or.inl q1999) dX8_elevator_42 rfl rfl (Nat.le_of_ble_eq_true rfl) (Nat.le_of_ble_eq_true rfl) (ly8_k La0_h2) ?_
          refine mx_aload_n dX8_refuse_0 rfl rfl ?_
          refine mx_iload_n dX8_refuse_1 rfl rfl ?_
          refine mx_putI 8 0 (ref := "PrairiePoolModel") cl_8 (Nat.le_of_ble_eq_true rfl) (Or.inl q1627) (Or.inl rfl) dX8_refuse_2 (Or.inl rfl) rfl (ly8_k La0_h2) ?_
          refine mx_nmI  (fun h10 eh10 Xh10 Kh10 Lh10 => ?_)
          have H := H h10 eh10 Xh10
          have Kh10 := Kh10.trans Kh2
          have Lh10 := Lh10.trans Lh2
          have La0_h10 := La0_h2.ext Xh10
          refine mx_iconst dX8_refuse_5 ic_m1 ?_
          refine mx_iretK rfl dX8_refuse_6 ?_
          exact mx_iret rfl dX8_elevator_45 H
        · have H := H.2 c9
          refine mx_iconst dX8_isIn_13 ic_1 ?_
          refine mx_goto (tgt := 18) dX8_isIn_14 rfl ?_
          refine mx_zretK rfl dX8_isIn_18 (Or.inr rfl) ?_
          refine mx_if_ne (tgt := 46) dX8_elevator_37 rfl (fun _ => ?_) (fun _ => absurd ‹_› (by decide))
          refine mx_aload_n dX8_elevator_46 rfl rfl ?_
          refine mx_get 8 6 (ref := "PrairiePoolModel") cl_8 (Nat.le_of_ble_eq_true rfl) (Or.inl q1633) (Or.inl rfl) dX8_elevator_47 (fv_8_6 _ _) (ly8_k La0_h2) ?_
          refine mx_ti ((ah_skIK eh2 (by decide)).trans (ah_skIK eh1 (by decide))) ?_
          refine mx_bipush dX8_elevator_50 ib_8 ?_
          refine mx_icmp_ne (tgt := 62) dX8_elevator_52 rfl (fun c11 => ?_) (fun c11 => ?_)
          · have H := H.1 c11
            refine mx_aload_n dX8_elevator_62 rfl rfl ?_
            refine mx_get 8 14 (ref := "PrairiePoolModel") cl_8 (Nat.le_of_ble_eq_true rfl) (Or.inl q1641) (Or.inl rfl) dX8_elevator_63 (fv_8_14 _ _) (ly8_k La0_h2) ?_
            refine mx_tr (ly8_R_0_14 La0_h2) ?_
            refine mx_aload_n dX8_elevator_66 rfl rfl ?_
            refine mx_get 8 6 (ref := "PrairiePoolModel") cl_8 (Nat.le_of_ble_eq_true rfl) (Or.inl q1633) (Or.inl rfl) dX8_elevator_67 (fv_8_6 _ _) (ly8_k La0_h2) ?_
            refine mx_ti ((ah_skIK eh2 (by decide)).trans (ah_skIK eh1 (by decide))) ?_
            refine mx_iload_n dX8_elevator_70 rfl rfl ?_
            obtain ⟨k12, H⟩ := H
            refine my_iast dX8_elevator_71 rfl (ly8_A_7 La0_h2 k12) ?_
            refine mx_nmI  (fun h13 eh13 Xh13 Kh13 Lh13 => ?_)
            have H := H h13 eh13 Xh13
            have Kh13 := Kh13.trans Kh2
            have Lh13 := Lh13.trans Lh2
            have La0_h13 := La0_h2.ext Xh13
            refine mx_aload_n dX8_elevator_72 rfl rfl ?_
            refine mx_get 8 15 (ref := "PrairiePoolModel") cl_8 (Nat.le_of_ble_eq_true rfl) (Or.inl q1642) (Or.inl rfl) dX8_elevator_73 (fv_8_15 _ _) (ly8_k La0_h13) ?_
            refine mx_tr (ly8_R_0_15 La0_h13) ?_
            refine mx_aload_n dX8_elevator_76 rfl rfl ?_
            refine mx_get 8 6 (ref := "PrairiePoolModel") cl_8 (Nat.le_of_ble_eq_true rfl) (Or.inl q1633) (Or.inl rfl) dX8_elevator_77 (fv_8_6 _ _) (ly8_k La0_h13) ?_
            refine mx_ti (((ah_skIA eh13 (by omega)).trans (ah_skIK eh2 (by decide))).trans (ah_skIK eh1 (by decide))) ?_
            refine mx_iload_n dX8_elevator_80 rfl rfl ?_
            refine my_iast dX8_elevator_81 rfl (ly8_A_8 La0_h13 k12) ?_
            refine mx_nmI  (fun h14 eh14 Xh14 Kh14 Lh14 => ?_)
            have H := H h14 eh14 Xh14
            have Kh14 := Kh14.trans Kh13
            have Lh14 := Lh14.trans Lh13
            have La0_h14 := La0_h13.ext Xh14
            refine mx_aload_n dX8_elevator_82 rfl rfl ?_
            refine mx_dup_r dX8_elevator_83 ?_
            refine mx_get 8 6 (ref := "PrairiePoolModel") cl_8 (Nat.le_of_ble_eq_true rfl) (Or.inl q1633) (Or.inl rfl) dX8_elevator_84 (fv_8_6 _ _) (ly8_k La0_h14) ?_
            refine mx_ti ((((ah_skIA eh14 (by omega)).trans (ah_skIA eh13 (by omega))).trans (ah_skIK eh2 (by decide))).trans (ah_skIK eh1 (by decide))) ?_
            refine mx_iconst dX8_elevator_87 ic_1 ?_
            refine mx_iadd dX8_elevator_88 ?_
            refine mx_putI 8 6 (ref := "PrairiePoolModel") cl_8 (Nat.le_of_ble_eq_true rfl) (Or.inl q1633) (Or.inl rfl) dX8_elevator_89 (Or.inl rfl) rfl (ly8_k La0_h14) ?_
            refine mx_nmI  (fun h15 eh15 Xh15 Kh15 Lh15 => ?_)
            have H := H h15 eh15 Xh15
            have Kh15 := Kh15.trans Kh14
            have Lh15 := Lh15.trans Lh14
            have La0_h15 := La0_h14.ext Xh15
            refine mx_aload_n dX8_elevator_92 rfl rfl ?_
            refine mx_get 8 6 (ref := "PrairiePoolModel") cl_8 (Nat.le_of_ble_eq_true rfl) (Or.inl q1633) (Or.inl rfl) dX8_elevator_93 (fv_8_6 _ _) (ly8_k La0_h15) ?_
            refine mx_ti (ah_hitI eh15) ?_
            refine mx_iconst dX8_elevator_96 ic_1 ?_
            refine mx_isub dX8_elevator_97 ?_
            exact mx_iret rfl dX8_elevator_98 H
          · have H := H.2 c11
            refine mx_aload_n dX8_elevator_55 rfl rfl ?_
            refine mx_bipush dX8_elevator_56 ib_7 ?_
            refine mx_callV 8 (y' := mi_X8_refuse) (vs := [iv (7 : Int32)]) (st := []) (al' := [some (rv a0), some (iv (7 : Int32))]) cl_8 V_X8_refuse (Or.inl q1999) dX8_elevator_58 rfl rfl (Nat.le_of_ble_eq_true rfl) (Nat.le_of_ble_eq_true rfl) (ly8_k La0_h2) ?_
            refine mx_aload_n dX8_refuse_0 rfl rfl ?_
            refine mx_iload_n dX8_refuse_1 rfl rfl ?_
            refine mx_putI 8 0 (ref := "PrairiePoolModel") cl_8 (Nat.le_of_ble_eq_true rfl) (Or.inl q1627) (Or.inl rfl) dX8_refuse_2 (Or.inl rfl) rfl (ly8_k La0_h2) ?_
            refine mx_nmI  (fun h16 eh16 Xh16 Kh16 Lh16 => ?_)
            have H := H h16 eh16 Xh16
            have Kh16 := Kh16.trans Kh2
            have Lh16 := Lh16.trans Lh2
            have La0_h16 := La0_h2.ext Xh16
            refine mx_iconst dX8_refuse_5 ic_m1 ?_
            refine mx_iretK rfl dX8_refuse_6 ?_
            exact mx_iret rfl dX8_elevator_61 H
theorem dX8_load_0 : decode mi_X8_load.2.1 0 = .ok (.aload_n 0, 1) := by decide +kernel
theorem dX8_load_1 : decode mi_X8_load.2.1 1 = .ok (.iconst 0, 1) := by decide +kernel
theorem dX8_load_2 : decode mi_X8_load.2.1 2 = .ok (.putfield 257, 3) := by decide +kernel
theorem dX8_load_5 : decode mi_X8_load.2.1 5 = .ok (.aload_n 0, 1) := by decide +kernel
theorem dX8_load_6 : decode mi_X8_load.2.1 6 = .ok (.iconst 0, 1) := by decide +kernel
theorem dX8_load_7 : decode mi_X8_load.2.1 7 = .ok (.putfield 260, 3) := by decide +kernel
theorem dX8_load_10 : decode mi_X8_load.2.1 10 = .ok (.aload_n 0, 1) := by decide +kernel
theorem dX8_load_11 : decode mi_X8_load.2.1 11 = .ok (.iload_n 1, 1) := by decide +kernel
theorem dX8_load_12 : decode mi_X8_load.2.1 12 = .ok (.invokevirtual 318, 3) := by decide +kernel
theorem dX8_load_15 : decode mi_X8_load.2.1 15 = .ok (.ifCond .eq 11, 3) := by decide +kernel
theorem dX8_load_18 : decode mi_X8_load.2.1 18 = .ok (.aload_n 0, 1) := by decide +kernel
theorem dX8_load_19 : decode mi_X8_load.2.1 19 = .ok (.iload_n 2, 1) := by decide +kernel
theorem dX8_load_20 : decode mi_X8_load.2.1 20 = .ok (.invokevirtual 321, 3) := by decide +kernel
theorem dX8_load_23 : decode mi_X8_load.2.1 23 = .ok (.ifCond .ne 9, 3) := by decide +kernel
theorem dX8_load_26 : decode mi_X8_load.2.1 26 = .ok (.aload_n 0, 1) := by decide +kernel
theorem dX8_load_27 : decode mi_X8_load.2.1 27 = .ok (.iconst 2, 1) := by decide +kernel
theorem dX8_load_28 : decode mi_X8_load.2.1 28 = .ok (.invokevirtual 297, 3) := by decide +kernel
theorem dX8_load_31 : decode mi_X8_load.2.1 31 = .ok (.ireturn, 1) := by decide +kernel
theorem dX8_load_32 : decode mi_X8_load.2.1 32 = .ok (.iload_n 3, 1) := by decide +kernel
theorem dX8_load_33 : decode mi_X8_load.2.1 33 = .ok (.i2l, 1) := by decide +kernel
theorem dX8_load_34 : decode mi_X8_load.2.1 34 = .ok (.lconst 1, 1) := by decide +kernel
theorem dX8_load_35 : decode mi_X8_load.2.1 35 = .ok (.ldc2_w 324, 3) := by decide +kernel
theorem dX8_load_38 : decode mi_X8_load.2.1 38 = .ok (.invokestatic 265, 3) := by decide +kernel
theorem dX8_load_41 : decode mi_X8_load.2.1 41 = .ok (.ifCond .eq 16, 3) := by decide +kernel
theorem dX8_load_44 : decode mi_X8_load.2.1 44 = .ok (.iload 4, 2) := by decide +kernel
theorem dX8_load_46 : decode mi_X8_load.2.1 46 = .ok (.i2l, 1) := by decide +kernel
theorem dX8_load_47 : decode mi_X8_load.2.1 47 = .ok (.lconst 0, 1) := by decide +kernel
theorem dX8_load_48 : decode mi_X8_load.2.1 48 = .ok (.ldc2_w 326, 3) := by decide +kernel
theorem dX8_load_51 : decode mi_X8_load.2.1 51 = .ok (.invokestatic 265, 3) := by decide +kernel
theorem dX8_load_54 : decode mi_X8_load.2.1 54 = .ok (.ifCond .ne 9, 3) := by decide +kernel
theorem dX8_load_57 : decode mi_X8_load.2.1 57 = .ok (.aload_n 0, 1) := by decide +kernel
theorem dX8_load_58 : decode mi_X8_load.2.1 58 = .ok (.iconst 5, 1) := by decide +kernel
theorem dX8_load_59 : decode mi_X8_load.2.1 59 = .ok (.invokevirtual 297, 3) := by decide +kernel
theorem dX8_load_62 : decode mi_X8_load.2.1 62 = .ok (.ireturn, 1) := by decide +kernel
theorem dX8_load_63 : decode mi_X8_load.2.1 63 = .ok (.aload_n 0, 1) := by decide +kernel
theorem dX8_load_64 : decode mi_X8_load.2.1 64 = .ok (.iconst 0, 1) := by decide +kernel
theorem dX8_load_65 : decode mi_X8_load.2.1 65 = .ok (.iload_n 1, 1) := by decide +kernel
theorem dX8_load_66 : decode mi_X8_load.2.1 66 = .ok (.iload_n 2, 1) := by decide +kernel
theorem dX8_load_67 : decode mi_X8_load.2.1 67 = .ok (.iconst (-1), 1) := by decide +kernel
theorem dX8_load_68 : decode mi_X8_load.2.1 68 = .ok (.iconst (-1), 1) := by decide +kernel
theorem dX8_load_69 : decode mi_X8_load.2.1 69 = .ok (.iload 5, 2) := by decide +kernel
theorem dX8_load_71 : decode mi_X8_load.2.1 71 = .ok (.bipush 52, 2) := by decide +kernel
theorem dX8_load_73 : decode mi_X8_load.2.1 73 = .ok (.idiv, 1) := by decide +kernel
theorem dX8_load_74 : decode mi_X8_load.2.1 74 = .ok (.iload_n 3, 1) := by decide +kernel
theorem dX8_load_75 : decode mi_X8_load.2.1 75 = .ok (.iload 4, 2) := by decide +kernel
theorem dX8_load_77 : decode mi_X8_load.2.1 77 = .ok (.iload 5, 2) := by decide +kernel
theorem dX8_load_79 : decode mi_X8_load.2.1 79 = .ok (.iload 6, 2) := by decide +kernel
theorem dX8_load_81 : decode mi_X8_load.2.1 81 = .ok (.invokevirtual 328, 3) := by decide +kernel
theorem dX8_load_84 : decode mi_X8_load.2.1 84 = .ok (.ireturn, 1) := by decide +kernel
theorem v_X8_load {G : ma_G} {d : Nat} {a0 : Nat} {x1 : Int32} {x2 : Int32} {x3 : Int32} {x4 : Int32} {x5 : Int32} {x6 : Int32} {h : ah_T} {Q : Option ma_V → ah_T → Prop} {E : Nat → ah_T → Prop} (La0_h : LY8 h a0) (H : ∀ h1 : ah_T, h1 = ah_wI h a0 1 (0 : Int32) → ah_ext h h1 → ∀ h2 : ah_T, h2 = ah_wI h1 a0 0 (0 : Int32) → ah_ext h1 h2 → (x1.toInt64 < (0 : Int64) → ∀ h4 : ah_T, h4 = ah_wI h2 a0 0 (2 : Int32) → ah_ext h2 h4 → Q (some (iv (-1 : Int32))) h4) ∧ (¬ x1.toInt64 < (0 : Int64) → (((ah_I h a0 5) - (1 : Int32)).toInt64 < x1.toInt64 → ∀ h6 : ah_T, h6 = ah_wI h2 a0 0 (2 : Int32) → ah_ext h2 h6 → Q (some (iv (-1 : Int32))) h6) ∧ (¬ ((ah_I h a0 5) - (1 : Int32)).toInt64 < x1.toInt64 → (x2.toInt64 < (0 : Int64) → ∀ h8 : ah_T, h8 = ah_wI h2 a0 0 (2 : Int32) → ah_ext h2 h8 → Q (some (iv (-1 : Int32))) h8) ∧ (¬ x2.toInt64 < (0 : Int64) → (((ah_I h a0 6) - (1 : Int32)).toInt64 < x2.toInt64 → ∀ h10 : ah_T, h10 = ah_wI h2 a0 0 (2 : Int32) → ah_ext h2 h10 → Q (some (iv (-1 : Int32))) h10) ∧ (¬ ((ah_I h a0 6) - (1 : Int32)).toInt64 < x2.toInt64 → (x3.toInt64 < (1 : Int64) → ∀ h12 : ah_T, h12 = ah_wI h2 a0 0 (5 : Int32) → ah_ext h2 h12 → Q (some (iv (-1 : Int32))) h12) ∧ (¬ x3.toInt64 < (1 : Int64) → ((10000 : Int64) < x3.toInt64 → ∀ h14 : ah_T, h14 = ah_wI h2 a0 0 (5 : Int32) → ah_ext h2 h14 → Q (some (iv (-1 : Int32))) h14) ∧ (¬ (10000 : Int64) < x3.toInt64 → (x4.toInt64 < (0 : Int64) → ∀ h16 : ah_T, h16 = ah_wI h2 a0 0 (5 : Int32) → ah_ext h2 h16 → Q (some (iv (-1 : Int32))) h16) ∧ (¬ x4.toInt64 < (0 : Int64) → ((1000 : Int64) < x4.toInt64 → ∀ h18 : ah_T, h18 = ah_wI h2 a0 0 (5 : Int32) → ah_ext h2 h18 → Q (some (iv (-1 : Int32))) h18) ∧ (¬ (1000 : Int64) < x4.toInt64 → MX G mi_X8_event (d + 1) 0 [some (rv a0), some (iv (0 : Int32)), some (iv x1), some (iv x2), some (iv (-1 : Int32)), some (iv (-1 : Int32)), some (iv (x5 / (52 : Int32))), some (iv x3), some (iv x4), some (iv x5), some (iv x6)] [] h2 (Qi fun r20 h19 => ah_ext h2 h19 → Q (some (iv r20)) h19) E))))))))) : MX G mi_X8_load (d + 2) 0 [some (rv a0), some (iv x1), some (iv x2), some (iv x3), some (iv x4), some (iv x5), some (iv x6)] [] h Q E := by
  refine mx_aload_n dX8_load_0 rfl rfl ?_
  refine mx_iconst dX8_load_1 ic_0 ?_
  refine mx_putI 8 1 (ref := "PrairiePoolModel") cl_8 (Nat.le_of_ble_eq_true rfl) (Or.inl q1628) (Or.inl rfl) dX8_load_2 (Or.inl rfl) rfl (ly8_k La0_h) ?_
  refine mx_nmI  (fun h1 eh1 Xh1 Kh1 Lh1 => ?_)
  have H := H h1 eh1 Xh1
  have La0_h1 := La0_h.ext Xh1
  refine mx_aload_n dX8_load_5 rfl rfl ?_
  refine mx_iconst dX8_load_6 ic_0 ?_
  refine mx_putI 8 0 (ref := "PrairiePoolModel") cl_8 (Nat.le_of_ble_eq_true rfl) (Or.inl q1627) (Or.inl rfl) dX8_load_7 (Or.inl rfl) rfl (ly8_k La0_h1) ?_
  refine mx_nmI  (fun h2 eh2 Xh2 Kh2 Lh2 => ?_)
  have H := H h2 eh2 Xh2
  have Kh2 := Kh2.trans Kh1
  have Lh2 := Lh2.trans Lh1
  have La0_h2 := La0_h1.ext Xh2
  refine mx_aload_n dX8_load_10 rfl rfl ?_
  refine mx_iload_n dX8_load_11 rfl rfl ?_
  refine mx_callV 8 (y' := mi_X8_isFarm) (vs := [iv x1]) (st := []) (al' := [some (rv a0), some (iv x1)]) cl_8 V_X8_isFarm (Or.inl q2014) dX8_load_12 rfl rfl (Nat.le_of_ble_eq_true rfl) (Nat.le_of_ble_eq_true rfl) (ly8_k La0_h2) ?_
  refine mx_iload_n dX8_isFarm_0 rfl rfl ?_
  refine mx_i2l dX8_isFarm_1 ?_
  refine mx_lconst dX8_isFarm_2 lc_0 ?_
  refine mx_aload_n dX8_isFarm_3 rfl rfl ?_
  refine mx_get 8 5 (ref := "PrairiePoolModel") cl_8 (Nat.le_of_ble_eq_true rfl) (Or.inl q1632) (Or.inl rfl) dX8_isFarm_4 (fv_8_5 _ _) (ly8_k La0_h2) ?_
  refine mx_ti ((ah_skIK eh2 (by decide)).trans (ah_skIK eh1 (by decide))) ?_
  refine mx_iconst dX8_isFarm_7 ic_1 ?_
  refine mx_isub dX8_isFarm_8 ?_
  refine mx_i2l dX8_isFarm_9 ?_
  refine mx_callS (y' := mi_X8_isIn) (vs := [jv x1.toInt64, jv (0 : Int64), jv ((ah_I h a0 5) - (1 : Int32)).toInt64]) (st := []) (al' := [some (jv x1.toInt64), none, some (jv (0 : Int64)), none, some (jv ((ah_I h a0 5) - (1 : Int32)).toInt64), none]) S_X8_isIn q1996 dX8_isFarm_10 rfl rfl (Nat.le_of_ble_eq_true rfl) (Nat.le_of_ble_eq_true rfl) ?_
  refine mx_lload_n dX8_isIn_0 rfl rfl ?_
  refine mx_lload_n dX8_isIn_1 rfl rfl ?_
  refine mx_lif_lt (tgt := 17) dX8_isIn_2 dX8_isIn_3 rfl (fun c3 => ?_) (fun c3 => ?_)
  · have H := H.1 c3
    refine mx_iconst dX8_isIn_17 ic_0 ?_
    refine mx_zretK rfl dX8_isIn_18 (Or.inl rfl) ?_
    refine mx_zretK rfl dX8_isFarm_13 (Or.inl rfl) ?_
    refine mx_if_eq (tgt := 26) dX8_load_15 rfl (fun _ => ?_) (fun _ => absurd ‹_› (by decide))
    refine mx_aload_n dX8_load_26 rfl rfl ?_
    refine mx_iconst dX8_load_27 ic_2 ?_
    refine mx_callV 8 (y' := mi_X8_refuse) (vs := [iv (2 : Int32)]) (st := []) (al' := [some (rv a0), some (iv (2 : Int32))]) cl_8 V_X8_refuse (Or.inl q1999) dX8_load_28 rfl rfl (Nat.le_of_ble_eq_true rfl) (Nat.le_of_ble_eq_true rfl) (ly8_k La0_h2) ?_
    refine mx_aload_n dX8_refuse_0 rfl rfl ?_
    refine mx_iload_n dX8_refuse_1 rfl rfl ?_
    refine mx_putI 8 0 (ref := "PrairiePoolModel") cl_8 (Nat.le_of_ble_eq_true rfl) (Or.inl q1627) (Or.inl rfl) dX8_refuse_2 (Or.inl rfl) rfl (ly8_k La0_h2) ?_
    refine mx_nmI  (fun h4 eh4 Xh4 Kh4 Lh4 => ?_)
    have H := H h4 eh4 Xh4
    have Kh4 := Kh4.trans Kh2
    have Lh4 := Lh4.trans Lh2
    have La0_h4 := La0_h2.ext Xh4
    refine mx_iconst dX8_refuse_5 ic_m1 ?_
    refine mx_iretK rfl dX8_refuse_6 ?_
    exact mx_iret rfl dX8_load_31 H
  · have H := H.2 c3
    refine mx_lload_n dX8_isIn_6 rfl rfl ?_
    refine mx_lload dX8_isIn_7 rfl ?_
    refine mx_lif_gt (tgt := 17) dX8_isIn_9 dX8_isIn_10 rfl (fun c5 => ?_) (fun c5 => ?_)
    · have H := H.1 c5
      refine mx_iconst dX8_isIn_17 ic_0 ?_
      refine mx_zretK rfl dX8_isIn_18 (Or.inl rfl) ?_
      refine mx_zretK rfl dX8_isFarm_13 (Or.inl rfl) ?_
      refine mx_if_eq (tgt := 26) dX8_load_15 rfl (fun _ => ?_) (fun _ => absurd ‹_› (by decide))
      refine mx_aload_n dX8_load_26 rfl rfl ?_
      refine mx_iconst dX8_load_27 ic_2 ?_
      refine mx_callV 8 (y' := mi_X8_refuse) (vs := [iv (2 : Int32)]) (st := []) (al' := [some (rv a0), some (iv (2 : Int32))]) cl_8 V_X8_refuse (Or.inl q1999) dX8_load_28 rfl rfl (Nat.le_of_ble_eq_true rfl) (Nat.le_of_ble_eq_true rfl) (ly8_k La0_h2) ?_
      refine mx_aload_n dX8_refuse_0 rfl rfl ?_
      refine mx_iload_n dX8_refuse_1 rfl rfl ?_
      refine mx_putI 8 0 (ref := "PrairiePoolModel") cl_8 (Nat.le_of_ble_eq_true rfl) (Or.inl q1627) (Or.inl rfl) dX8_refuse_2 (Or.inl rfl) rfl (ly8_k La0_h2) ?_
      refine mx_nmI  (fun h6 eh6 Xh6 Kh6 Lh6 => ?_)
      have H := H h6 eh6 Xh6
      have Kh6 := Kh6.trans Kh2
      have Lh6 := Lh6.trans Lh2
      have La0_h6 := La0_h2.ext Xh6
      refine mx_iconst dX8_refuse_5 ic_m1 ?_
      refine mx_iretK rfl dX8_refuse_6 ?_
      exact mx_iret rfl dX8_load_31 H
    · have H := H.2 c5
      refine mx_iconst dX8_isIn_13 ic_1 ?_
      refine mx_goto (tgt := 18) dX8_isIn_14 rfl ?_
      refine mx_zretK rfl dX8_isIn_18 (Or.inr rfl) ?_
      refine mx_zretK rfl dX8_isFarm_13 (Or.inr rfl) ?_
      refine mx_if_eq (tgt := 26) dX8_load_15 rfl (fun _ => absurd ‹_› (by decide)) (fun _ => ?_)
      refine mx_aload_n dX8_load_18 rfl rfl ?_
      refine mx_iload_n dX8_load_19 rfl rfl ?_
      refine mx_callV 8 (y' := mi_X8_isElevator) (vs := [iv x2]) (st := []) (al' := [some (rv a0), some (iv x2)]) cl_8 V_X8_isElevator (Or.inl q2018) dX8_load_20 rfl rfl (Nat.le_of_ble_eq_true rfl) (Nat.le_of_ble_eq_true rfl) (ly8_k La0_h2) ?_
      refine mx_iload_n dX8_isElevator_0 rfl rfl ?_
      refine mx_i2l dX8_isElevator_1 ?_
      refine mx_lconst dX8_isElevator_2 lc_0 ?_
      refine mx_aload_n dX8_isElevator_3 rfl rfl ?_
      refine mx_get 8 6 (ref := "PrairiePoolModel") cl_8 (Nat.le_of_ble_eq_true rfl) (Or.inl q1633) (Or.inl rfl) dX8_isElevator_4 (fv_8_6 _ _) (ly8_k La0_h2) ?_
      refine mx_ti ((ah_skIK eh2 (by decide)).trans (ah_skIK eh1 (by decide))) ?_
      refine mx_iconst dX8_isElevator_7 ic_1 ?_
      refine mx_isub dX8_isElevator_8 ?_
      refine mx_i2l dX8_isElevator_9 ?_
      refine mx_callS (y' := mi_X8_isIn) (vs := [jv x2.toInt64, jv (0 : Int64), jv ((ah_I h a0 6) - (1 : Int32)).toInt64]) (st := []) (al' := [some (jv x2.toInt64), none, some (jv (0 : Int64)), none, some (jv ((ah_I h a0 6) - (1 : Int32)).toInt64), none]) S_X8_isIn q1996 dX8_isElevator_10 rfl rfl (Nat.le_of_ble_eq_true rfl) (Nat.le_of_ble_eq_true rfl) ?_
      refine mx_lload_n dX8_isIn_0 rfl rfl ?_
      refine mx_lload_n dX8_isIn_1 rfl rfl ?_
      refine mx_lif_lt (tgt := 17) dX8_isIn_2 dX8_isIn_3 rfl (fun c7 => ?_) (fun c7 => ?_)
      · have H := H.1 c7
        refine mx_iconst dX8_isIn_17 ic_0 ?_
        refine mx_zretK rfl dX8_isIn_18 (Or.inl rfl) ?_
        refine mx_zretK rfl dX8_isElevator_13 (Or.inl rfl) ?_
        refine mx_if_ne (tgt := 32) dX8_load_23 rfl (fun _ => absurd ‹_› (by decide)) (fun _ => ?_)
        refine mx_aload_n dX8_load_26 rfl rfl ?_
        refine mx_iconst dX8_load_27 ic_2 ?_
        refine mx_callV 8 (y' := mi_X8_refuse) (vs := [iv (2 : Int32)]) (st := []) (al' := [some (rv a0), some (iv (2 : Int32))]) cl_8 V_X8_refuse (Or.inl q1999) dX8_load_28 rfl rfl (Nat.le_of_ble_eq_true rfl) (Nat.le_of_ble_eq_true rfl) (ly8_k La0_h2) ?_
        refine mx_aload_n dX8_refuse_0 rfl rfl ?_
        refine mx_iload_n dX8_refuse_1 rfl rfl ?_
        refine mx_putI 8 0 (ref := "PrairiePoolModel") cl_8 (Nat.le_of_ble_eq_true rfl) (Or.inl q1627) (Or.inl rfl) dX8_refuse_2 (Or.inl rfl) rfl (ly8_k La0_h2) ?_
        refine mx_nmI  (fun h8 eh8 Xh8 Kh8 Lh8 => ?_)
        have H := H h8 eh8 Xh8
        have Kh8 := Kh8.trans Kh2
        have Lh8 := Lh8.trans Lh2
        have La0_h8 := La0_h2.ext Xh8
        refine mx_iconst dX8_refuse_5 ic_m1 ?_
        refine mx_iretK rfl dX8_refuse_6 ?_
        exact mx_iret rfl dX8_load_31 H
      · have H := H.2 c7
        refine mx_lload_n dX8_isIn_6 rfl rfl ?_
        refine mx_lload dX8_isIn_7 rfl ?_
        refine mx_lif_gt (tgt := 17) dX8_isIn_9 dX8_isIn_10 rfl (fun c9 => ?_) (fun c9 => ?_)
        · have H := H.1 c9
          refine mx_iconst dX8_isIn_17 ic_0 ?_
          refine mx_zretK rfl dX8_isIn_18 (Or.inl rfl) ?_
          refine mx_zretK rfl dX8_isElevator_13 (Or.inl rfl) ?_
          refine mx_if_ne (tgt := 32) dX8_load_23 rfl (fun _ => absurd ‹_› (by decide)) (fun _ => ?_)
          refine mx_aload_n dX8_load_26 rfl rfl ?_
          refine mx_iconst dX8_load_27 ic_2 ?_
          refine mx_callV 8 (y' := mi_X8_refuse) (vs := [iv (2 : Int32)]) (st := []) (al' := [some (rv a0), some (iv (2 : Int32))]) cl_8 V_X8_refuse (Or.inl q1999) dX8_load_28 rfl rfl (Nat.le_of_ble_eq_true rfl) (Nat.le_of_ble_eq_true rfl) (ly8_k La0_h2) ?_
          refine mx_aload_n dX8_refuse_0 rfl rfl ?_
          refine mx_iload_n dX8_refuse_1 rfl rfl ?_
          refine mx_putI 8 0 (ref := "PrairiePoolModel") cl_8 (Nat.le_of_ble_eq_true rfl) (Or.inl q1627) (Or.inl rfl) dX8_refuse_2 (Or.inl rfl) rfl (ly8_k La0_h2) ?_
          refine mx_nmI  (fun h10 eh10 Xh10 Kh10 Lh10 => ?_)
          have H := H h10 eh10 Xh10
          have Kh10 := Kh10.trans Kh2
          have Lh10 := Lh10.trans Lh2
          have La0_h10 := La0_h2.ext Xh10
          refine mx_iconst dX8_refuse_5 ic_m1 ?_
          refine mx_iretK rfl dX8_refuse_6 ?_
          exact mx_iret rfl dX8_load_31 H
        · have H := H.2 c9
          refine mx_iconst dX8_isIn_13 ic_1 ?_
          refine mx_goto (tgt := 18) dX8_isIn_14 rfl ?_
          refine mx_zretK rfl dX8_isIn_18 (Or.inr rfl) ?_
          refine mx_zretK rfl dX8_isElevator_13 (Or.inr rfl) ?_
          refine mx_if_ne (tgt := 32) dX8_load_23 rfl (fun _ => ?_) (fun _ => absurd ‹_› (by decide))
          refine mx_iload_n dX8_load_32 rfl rfl ?_
          refine mx_i2l dX8_load_33 ?_
          refine mx_lconst dX8_load_34 lc_1 ?_
          refine mx_ldc2 q2022 dX8_load_35 ?_
          refine mx_callS (y' := mi_X8_isIn) (vs := [jv x3.toInt64, jv (1 : Int64), jv (10000 : Int64)]) (st := []) (al' := [some (jv x3.toInt64), none, some (jv (1 : Int64)), none, some (jv (10000 : Int64)), none]) S_X8_isIn q1996 dX8_load_38 rfl rfl (Nat.le_of_ble_eq_true rfl) (Nat.le_of_ble_eq_true rfl) ?_
          refine mx_lload_n dX8_isIn_0 rfl rfl ?_
          refine mx_lload_n dX8_isIn_1 rfl rfl ?_
          refine mx_lif_lt (tgt := 17) dX8_isIn_2 dX8_isIn_3 rfl (fun c11 => ?_) (fun c11 => ?_)
          · have H := H.1 c11
            refine mx_iconst dX8_isIn_17 ic_0 ?_
            refine mx_zretK rfl dX8_isIn_18 (Or.inl rfl) ?_
            refine mx_if_eq (tgt := 57) dX8_load_41 rfl (fun _ => ?_) (fun _ => absurd ‹_› (by decide))
            refine mx_aload_n dX8_load_57 rfl rfl ?_
            refine mx_iconst dX8_load_58 ic_5 ?_
            refine mx_callV 8 (y' := mi_X8_refuse) (vs := [iv (5 : Int32)]) (st := []) (al' := [some (rv a0), some (iv (5 : Int32))]) cl_8 V_X8_refuse (Or.inl q1999) dX8_load_59 rfl rfl (Nat.le_of_ble_eq_true rfl) (Nat.le_of_ble_eq_true rfl) (ly8_k La0_h2) ?_
            refine mx_aload_n dX8_refuse_0 rfl rfl ?_
            refine mx_iload_n dX8_refuse_1 rfl rfl ?_
            refine mx_putI 8 0 (ref := "PrairiePoolModel") cl_8 (Nat.le_of_ble_eq_true rfl) (Or.inl q1627) (Or.inl rfl) dX8_refuse_2 (Or.inl rfl) rfl (ly8_k La0_h2) ?_
            refine mx_nmI  (fun h12 eh12 Xh12 Kh12 Lh12 => ?_)
            have H := H h12 eh12 Xh12
            have Kh12 := Kh12.trans Kh2
            have Lh12 := Lh12.trans Lh2
            have La0_h12 := La0_h2.ext Xh12
            refine mx_iconst dX8_refuse_5 ic_m1 ?_
            refine mx_iretK rfl dX8_refuse_6 ?_
            exact mx_iret rfl dX8_load_62 H
          · have H := H.2 c11
            refine mx_lload_n dX8_isIn_6 rfl rfl ?_
            refine mx_lload dX8_isIn_7 rfl ?_
            refine mx_lif_gt (tgt := 17) dX8_isIn_9 dX8_isIn_10 rfl (fun c13 => ?_) (fun c13 => ?_)
            · have H := H.1 c13
              refine mx_iconst dX8_isIn_17 ic_0 ?_
              refine mx_zretK rfl dX8_isIn_18 (Or.inl rfl) ?_
              refine mx_if_eq (tgt := 57) dX8_load_41 rfl (fun _ => ?_) (fun _ => absurd ‹_› (by decide))
              refine mx_aload_n dX8_load_57 rfl rfl ?_
              refine mx_iconst dX8_load_58 ic_5 ?_
              refine mx_callV 8 (y' := mi_X8_refuse) (vs := [iv (5 : Int32)]) (st := []) (al' := [some (rv a0), some (iv (5 : Int32))]) cl_8 V_X8_refuse (Or.inl q1999) dX8_load_59 rfl rfl (Nat.le_of_ble_eq_true rfl) (Nat.le_of_ble_eq_true rfl) (ly8_k La0_h2) ?_
              refine mx_aload_n dX8_refuse_0 rfl rfl ?_
              refine mx_iload_n dX8_refuse_1 rfl rfl ?_
              refine mx_putI 8 0 (ref := "PrairiePoolModel") cl_8 (Nat.le_of_ble_eq_true rfl) (Or.inl q1627) (Or.inl rfl) dX8_refuse_2 (Or.inl rfl) rfl (ly8_k La0_h2) ?_
              refine mx_nmI  (fun h14 eh14 Xh14 Kh14 Lh14 => ?_)
              have H := H h14 eh14 Xh14
              have Kh14 := Kh14.trans Kh2
              have Lh14 := Lh14.trans Lh2
              have La0_h14 := La0_h2.ext Xh14
              refine mx_iconst dX8_refuse_5 ic_m1 ?_
              refine mx_iretK rfl dX8_refuse_6 ?_
              exact mx_iret rfl dX8_load_62 H
            · have H := H.2 c13
              refine mx_iconst dX8_isIn_13 ic_1 ?_
              refine mx_goto (tgt := 18) dX8_isIn_14 rfl ?_
              refine mx_zretK rfl dX8_isIn_18 (Or.inr rfl) ?_
              refine mx_if_eq (tgt := 57) dX8_load_41 rfl (fun _ => absurd ‹_› (by decide)) (fun _ => ?_)
              refine mx_iload dX8_load_44 rfl ?_
              refine mx_i2l dX8_load_46 ?_
              refine mx_lconst dX8_load_47 lc_0 ?_
              refine mx_ldc2 q2023 dX8_load_48 ?_
              refine mx_callS (y' := mi_X8_isIn) (vs := [jv x4.toInt64, jv (0 : Int64), jv (1000 : Int64)]) (st := []) (al' := [some (jv x4.toInt64), none, some (jv (0 : Int64)), none, some (jv (1000 : Int64)), none]) S_X8_isIn q1996 dX8_load_51 rfl rfl (Nat.le_of_ble_eq_true rfl) (Nat.le_of_ble_eq_true rfl) ?_
              refine mx_lload_n dX8_isIn_0 rfl rfl ?_
              refine mx_lload_n dX8_isIn_1 rfl rfl ?_
              refine mx_lif_lt (tgt := 17) dX8_isIn_2 dX8_isIn_3 rfl (fun c15 => ?_) (fun c15 => ?_)
              · have H := H.1 c15
                refine mx_iconst dX8_isIn_17 ic_0 ?_
                refine mx_zretK rfl dX8_isIn_18 (Or.inl rfl) ?_
                refine mx_if_ne (tgt := 63) dX8_load_54 rfl (fun _ => absurd ‹_› (by decide)) (fun _ => ?_)
                refine mx_aload_n dX8_load_57 rfl rfl ?_
                refine mx_iconst dX8_load_58 ic_5 ?_
                refine mx_callV 8 (y' := mi_X8_refuse) (vs := [iv (5 : Int32)]) (st := []) (al' := [some (rv a0), some (iv (5 : Int32))]) cl_8 V_X8_refuse (Or.inl q1999) dX8_load_59 rfl rfl (Nat.le_of_ble_eq_true rfl) (Nat.le_of_ble_eq_true rfl) (ly8_k La0_h2) ?_
                refine mx_aload_n dX8_refuse_0 rfl rfl ?_
                refine mx_iload_n dX8_refuse_1 rfl rfl ?_
                refine mx_putI 8 0 (ref := "PrairiePoolModel") cl_8 (Nat.le_of_ble_eq_true rfl) (Or.inl q1627) (Or.inl rfl) dX8_refuse_2 (Or.inl rfl) rfl (ly8_k La0_h2) ?_
                refine mx_nmI  (fun h16 eh16 Xh16 Kh16 Lh16 => ?_)
                have H := H h16 eh16 Xh16
                have Kh16 := Kh16.trans Kh2
                have Lh16 := Lh16.trans Lh2
                have La0_h16 := La0_h2.ext Xh16
                refine mx_iconst dX8_refuse_5 ic_m1 ?_
                refine mx_iretK rfl dX8_refuse_6 ?_
                exact mx_iret rfl dX8_load_62 H
              · have H := H.2 c15
                refine mx_lload_n dX8_isIn_6 rfl rfl ?_
                refine mx_lload dX8_isIn_7 rfl ?_
                refine mx_lif_gt (tgt := 17) dX8_isIn_9 dX8_isIn_10 rfl (fun c17 => ?_) (fun c17 => ?_)
                · have H := H.1 c17
                  refine mx_iconst dX8_isIn_17 ic_0 ?_
                  refine mx_zretK rfl dX8_isIn_18 (Or.inl rfl) ?_
                  refine mx_if_ne (tgt := 63) dX8_load_54 rfl (fun _ => absurd ‹_› (by decide)) (fun _ => ?_)
                  refine mx_aload_n dX8_load_57 rfl rfl ?_
                  refine mx_iconst dX8_load_58 ic_5 ?_
                  refine mx_callV 8 (y' := mi_X8_refuse) (vs := [iv (5 : Int32)]) (st := []) (al' := [some (rv a0), some (iv (5 : Int32))]) cl_8 V_X8_refuse (Or.inl q1999) dX8_load_59 rfl rfl (Nat.le_of_ble_eq_true rfl) (Nat.le_of_ble_eq_true rfl) (ly8_k La0_h2) ?_
                  refine mx_aload_n dX8_refuse_0 rfl rfl ?_
                  refine mx_iload_n dX8_refuse_1 rfl rfl ?_
                  refine mx_putI 8 0 (ref := "PrairiePoolModel") cl_8 (Nat.le_of_ble_eq_true rfl) (Or.inl q1627) (Or.inl rfl) dX8_refuse_2 (Or.inl rfl) rfl (ly8_k La0_h2) ?_
                  refine mx_nmI  (fun h18 eh18 Xh18 Kh18 Lh18 => ?_)
                  have H := H h18 eh18 Xh18
                  have Kh18 := Kh18.trans Kh2
                  have Lh18 := Lh18.trans Lh2
                  have La0_h18 := La0_h2.ext Xh18
                  refine mx_iconst dX8_refuse_5 ic_m1 ?_
                  refine mx_iretK rfl dX8_refuse_6 ?_
                  exact mx_iret rfl dX8_load_62 H
                · have H := H.2 c17
                  refine mx_iconst dX8_isIn_13 ic_1 ?_
                  refine mx_goto (tgt := 18) dX8_isIn_14 rfl ?_
                  refine mx_zretK rfl dX8_isIn_18 (Or.inr rfl) ?_
                  refine mx_if_ne (tgt := 63) dX8_load_54 rfl (fun _ => ?_) (fun _ => absurd ‹_› (by decide))
                  refine mx_aload_n dX8_load_63 rfl rfl ?_
                  refine mx_iconst dX8_load_64 ic_0 ?_
                  refine mx_iload_n dX8_load_65 rfl rfl ?_
                  refine mx_iload_n dX8_load_66 rfl rfl ?_
                  refine mx_iconst dX8_load_67 ic_m1 ?_
                  refine mx_iconst dX8_load_68 ic_m1 ?_
                  refine mx_iload dX8_load_69 rfl ?_
                  refine mx_bipush dX8_load_71 ib_52 ?_
                  refine mx_idiv dX8_load_73 (by decide) ?_
                  refine mx_iload_n dX8_load_74 rfl rfl ?_
                  refine mx_iload dX8_load_75 rfl ?_
                  refine mx_iload dX8_load_77 rfl ?_
                  refine mx_iload dX8_load_79 rfl ?_
                  refine mx_callV 8 (y' := mi_X8_event) (vs := [iv (0 : Int32), iv x1, iv x2, iv (-1 : Int32), iv (-1 : Int32), iv (x5 / (52 : Int32)), iv x3, iv x4, iv x5, iv x6]) (st := []) (al' := [some (rv a0), some (iv (0 : Int32)), some (iv x1), some (iv x2), some (iv (-1 : Int32)), some (iv (-1 : Int32)), some (iv (x5 / (52 : Int32))), some (iv x3), some (iv x4), some (iv x5), some (iv x6)]) cl_8 V_X8_event (Or.inl q2024) dX8_load_81 rfl rfl (Nat.le_of_ble_eq_true rfl) (Nat.le_of_ble_eq_true rfl) (ly8_k La0_h2) ?_
                  refine ma_ki H (fun r20 h19 Xh19 H => ?_) (fun x1 h1 X1 H => mt_out rfl H)
                  have H := H Xh19
                  have La0_h19 := La0_h2.ext Xh19
                  exact mx_iret rfl dX8_load_84 H
theorem v_X8_isFarm {G : ma_G} {d : Nat} {a0 : Nat} {x1 : Int32} {h : ah_T} {Q : Option ma_V → ah_T → Prop} {E : Nat → ah_T → Prop} (La0_h : LY8 h a0) (H : (x1.toInt64 < (0 : Int64) → Q (some (iv (0 : Int32))) h) ∧ (¬ x1.toInt64 < (0 : Int64) → (((ah_I h a0 5) - (1 : Int32)).toInt64 < x1.toInt64 → Q (some (iv (0 : Int32))) h) ∧ (¬ ((ah_I h a0 5) - (1 : Int32)).toInt64 < x1.toInt64 → Q (some (iv (1 : Int32))) h))) : MX G mi_X8_isFarm (d + 1) 0 [some (rv a0), some (iv x1)] [] h Q E := by
  refine mx_iload_n dX8_isFarm_0 rfl rfl ?_
  refine mx_i2l dX8_isFarm_1 ?_
  refine mx_lconst dX8_isFarm_2 lc_0 ?_
  refine mx_aload_n dX8_isFarm_3 rfl rfl ?_
  refine mx_get 8 5 (ref := "PrairiePoolModel") cl_8 (Nat.le_of_ble_eq_true rfl) (Or.inl q1632) (Or.inl rfl) dX8_isFarm_4 (fv_8_5 _ _) (ly8_k La0_h) ?_
  refine mx_iconst dX8_isFarm_7 ic_1 ?_
  refine mx_isub dX8_isFarm_8 ?_
  refine mx_i2l dX8_isFarm_9 ?_
  refine mx_callS (y' := mi_X8_isIn) (vs := [jv x1.toInt64, jv (0 : Int64), jv ((ah_I h a0 5) - (1 : Int32)).toInt64]) (st := []) (al' := [some (jv x1.toInt64), none, some (jv (0 : Int64)), none, some (jv ((ah_I h a0 5) - (1 : Int32)).toInt64), none]) S_X8_isIn q1996 dX8_isFarm_10 rfl rfl (Nat.le_of_ble_eq_true rfl) (Nat.le_of_ble_eq_true rfl) ?_
  refine mx_lload_n dX8_isIn_0 rfl rfl ?_
  refine mx_lload_n dX8_isIn_1 rfl rfl ?_
  refine mx_lif_lt (tgt := 17) dX8_isIn_2 dX8_isIn_3 rfl (fun c1 => ?_) (fun c1 => ?_)
  · have H := H.1 c1
    refine mx_iconst dX8_isIn_17 ic_0 ?_
    refine mx_zretK rfl dX8_isIn_18 (Or.inl rfl) ?_
    exact mx_zret rfl dX8_isFarm_13 (Or.inl rfl) H
  · have H := H.2 c1
    refine mx_lload_n dX8_isIn_6 rfl rfl ?_
    refine mx_lload dX8_isIn_7 rfl ?_
    refine mx_lif_gt (tgt := 17) dX8_isIn_9 dX8_isIn_10 rfl (fun c2 => ?_) (fun c2 => ?_)
    · have H := H.1 c2
      refine mx_iconst dX8_isIn_17 ic_0 ?_
      refine mx_zretK rfl dX8_isIn_18 (Or.inl rfl) ?_
      exact mx_zret rfl dX8_isFarm_13 (Or.inl rfl) H
    · have H := H.2 c2
      refine mx_iconst dX8_isIn_13 ic_1 ?_
      refine mx_goto (tgt := 18) dX8_isIn_14 rfl ?_
      refine mx_zretK rfl dX8_isIn_18 (Or.inr rfl) ?_
      exact mx_zret rfl dX8_isFarm_13 (Or.inr rfl) H
theorem v_X8_isElevator {G : ma_G} {d : Nat} {a0 : Nat} {x1 : Int32} {h : ah_T} {Q : Option ma_V → ah_T → Prop} {E : Nat → ah_T → Prop} (La0_h : LY8 h a0) (H : (x1.toInt64 < (0 : Int64) → Q (some (iv (0 : Int32))) h) ∧ (¬ x1.toInt64 < (0 : Int64) → (((ah_I h a0 6) - (1 : Int32)).toInt64 < x1.toInt64 → Q (some (iv (0 : Int32))) h) ∧ (¬ ((ah_I h a0 6) - (1 : Int32)).toInt64 < x1.toInt64 → Q (some (iv (1 : Int32))) h))) : MX G mi_X8_isElevator (d + 1) 0 [some (rv a0), some (iv x1)] [] h Q E := by
  refine mx_iload_n dX8_isElevator_0 rfl rfl ?_
  refine mx_i2l dX8_isElevator_1 ?_
  refine mx_lconst dX8_isElevator_2 lc_0 ?_
  refine mx_aload_n dX8_isElevator_3 rfl rfl ?_
  refine mx_get 8 6 (ref := "PrairiePoolModel") cl_8 (Nat.le_of_ble_eq_true rfl) (Or.inl q1633) (Or.inl rfl) dX8_isElevator_4 (fv_8_6 _ _) (ly8_k La0_h) ?_
  refine mx_iconst dX8_isElevator_7 ic_1 ?_
  refine mx_isub dX8_isElevator_8 ?_
  refine mx_i2l dX8_isElevator_9 ?_
  refine mx_callS (y' := mi_X8_isIn) (vs := [jv x1.toInt64, jv (0 : Int64), jv ((ah_I h a0 6) - (1 : Int32)).toInt64]) (st := []) (al' := [some (jv x1.toInt64), none, some (jv (0 : Int64)), none, some (jv ((ah_I h a0 6) - (1 : Int32)).toInt64), none]) S_X8_isIn q1996 dX8_isElevator_10 rfl rfl (Nat.le_of_ble_eq_true rfl) (Nat.le_of_ble_eq_true rfl) ?_
  refine mx_lload_n dX8_isIn_0 rfl rfl ?_
  refine mx_lload_n dX8_isIn_1 rfl rfl ?_
  refine mx_lif_lt (tgt := 17) dX8_isIn_2 dX8_isIn_3 rfl (fun c1 => ?_) (fun c1 => ?_)
  · have H := H.1 c1
    refine mx_iconst dX8_isIn_17 ic_0 ?_
    refine mx_zretK rfl dX8_isIn_18 (Or.inl rfl) ?_
    exact mx_zret rfl dX8_isElevator_13 (Or.inl rfl) H
  · have H := H.2 c1
    refine mx_lload_n dX8_isIn_6 rfl rfl ?_
    refine mx_lload dX8_isIn_7 rfl ?_
    refine mx_lif_gt (tgt := 17) dX8_isIn_9 dX8_isIn_10 rfl (fun c2 => ?_) (fun c2 => ?_)
    · have H := H.1 c2
      refine mx_iconst dX8_isIn_17 ic_0 ?_
      refine mx_zretK rfl dX8_isIn_18 (Or.inl rfl) ?_
      exact mx_zret rfl dX8_isElevator_13 (Or.inl rfl) H
    · have H := H.2 c2
      refine mx_iconst dX8_isIn_13 ic_1 ?_
      refine mx_goto (tgt := 18) dX8_isIn_14 rfl ?_
      refine mx_zretK rfl dX8_isIn_18 (Or.inr rfl) ?_
      exact mx_zret rfl dX8_isElevator_13 (Or.inr rfl) H
theorem dX8_event_0 : decode mi_X8_event.2.1 0 = .ok (.iload 9, 2) := by decide +kernel
theorem dX8_event_2 : decode mi_X8_event.2.1 2 = .ok (.invokestatic 306, 3) := by decide +kernel
theorem dX8_event_5 : decode mi_X8_event.2.1 5 = .ok (.ifCond .eq 18, 3) := by decide +kernel
theorem dX8_event_8 : decode mi_X8_event.2.1 8 = .ok (.iload 10, 2) := by decide +kernel
theorem dX8_event_10 : decode mi_X8_event.2.1 10 = .ok (.i2l, 1) := by decide +kernel
theorem dX8_event_11 : decode mi_X8_event.2.1 11 = .ok (.iload 9, 2) := by decide +kernel
theorem dX8_event_13 : decode mi_X8_event.2.1 13 = .ok (.i2l, 1) := by decide +kernel
theorem dX8_event_14 : decode mi_X8_event.2.1 14 = .ok (.ldc2_w 263, 3) := by decide +kernel
theorem dX8_event_17 : decode mi_X8_event.2.1 17 = .ok (.invokestatic 265, 3) := by decide +kernel
theorem dX8_event_20 : decode mi_X8_event.2.1 20 = .ok (.ifCond .ne 9, 3) := by decide +kernel
theorem dX8_event_23 : decode mi_X8_event.2.1 23 = .ok (.aload_n 0, 1) := by decide +kernel
theorem dX8_event_24 : decode mi_X8_event.2.1 24 = .ok (.iconst 5, 1) := by decide +kernel
theorem dX8_event_25 : decode mi_X8_event.2.1 25 = .ok (.invokevirtual 297, 3) := by decide +kernel
theorem dX8_event_28 : decode mi_X8_event.2.1 28 = .ok (.ireturn, 1) := by decide +kernel
theorem dX8_event_29 : decode mi_X8_event.2.1 29 = .ok (.aload_n 0, 1) := by decide +kernel
theorem dX8_event_30 : decode mi_X8_event.2.1 30 = .ok (.getfield 309, 3) := by decide +kernel
theorem dX8_event_33 : decode mi_X8_event.2.1 33 = .ok (.bipush 120, 2) := by decide +kernel
theorem dX8_event_35 : decode mi_X8_event.2.1 35 = .ok (.if_icmp .ne 10, 3) := by decide +kernel
theorem dX8_event_38 : decode mi_X8_event.2.1 38 = .ok (.aload_n 0, 1) := by decide +kernel
theorem dX8_event_39 : decode mi_X8_event.2.1 39 = .ok (.bipush 7, 2) := by decide +kernel
theorem dX8_event_41 : decode mi_X8_event.2.1 41 = .ok (.invokevirtual 297, 3) := by decide +kernel
theorem dX8_event_44 : decode mi_X8_event.2.1 44 = .ok (.ireturn, 1) := by decide +kernel
theorem dX8_event_45 : decode mi_X8_event.2.1 45 = .ok (.iload 9, 2) := by decide +kernel
theorem dX8_event_47 : decode mi_X8_event.2.1 47 = .ok (.aload_n 0, 1) := by decide +kernel
theorem dX8_event_48 : decode mi_X8_event.2.1 48 = .ok (.getfield 312, 3) := by decide +kernel
theorem dX8_event_51 : decode mi_X8_event.2.1 51 = .ok (.if_icmp .lt 12, 3) := by decide +kernel
theorem dX8_event_54 : decode mi_X8_event.2.1 54 = .ok (.iload 10, 2) := by decide +kernel
theorem dX8_event_56 : decode mi_X8_event.2.1 56 = .ok (.aload_n 0, 1) := by decide +kernel
theorem dX8_event_57 : decode mi_X8_event.2.1 57 = .ok (.getfield 315, 3) := by decide +kernel
theorem dX8_event_60 : decode mi_X8_event.2.1 60 = .ok (.if_icmp .ge 10, 3) := by decide +kernel
theorem dX8_event_63 : decode mi_X8_event.2.1 63 = .ok (.aload_n 0, 1) := by decide +kernel
theorem dX8_event_64 : decode mi_X8_event.2.1 64 = .ok (.bipush 12, 2) := by decide +kernel
theorem dX8_event_66 : decode mi_X8_event.2.1 66 = .ok (.invokevirtual 297, 3) := by decide +kernel
theorem dX8_event_69 : decode mi_X8_event.2.1 69 = .ok (.ireturn, 1) := by decide +kernel
theorem dX8_event_70 : decode mi_X8_event.2.1 70 = .ok (.aload_n 0, 1) := by decide +kernel
theorem dX8_event_71 : decode mi_X8_event.2.1 71 = .ok (.getfield 35, 3) := by decide +kernel
theorem dX8_event_74 : decode mi_X8_event.2.1 74 = .ok (.aload_n 0, 1) := by decide +kernel
theorem dX8_event_75 : decode mi_X8_event.2.1 75 = .ok (.getfield 309, 3) := by decide +kernel
theorem dX8_event_78 : decode mi_X8_event.2.1 78 = .ok (.iload_n 1, 1) := by decide +kernel
theorem dX8_event_79 : decode mi_X8_event.2.1 79 = .ok (.iastore, 1) := by decide +kernel
theorem dX8_event_80 : decode mi_X8_event.2.1 80 = .ok (.aload_n 0, 1) := by decide +kernel
theorem dX8_event_81 : decode mi_X8_event.2.1 81 = .ok (.getfield 38, 3) := by decide +kernel
theorem dX8_event_84 : decode mi_X8_event.2.1 84 = .ok (.aload_n 0, 1) := by decide +kernel
theorem dX8_event_85 : decode mi_X8_event.2.1 85 = .ok (.getfield 309, 3) := by decide +kernel
theorem dX8_event_88 : decode mi_X8_event.2.1 88 = .ok (.iload_n 2, 1) := by decide +kernel
theorem dX8_event_89 : decode mi_X8_event.2.1 89 = .ok (.iastore, 1) := by decide +kernel
theorem dX8_event_90 : decode mi_X8_event.2.1 90 = .ok (.aload_n 0, 1) := by decide +kernel
theorem dX8_event_91 : decode mi_X8_event.2.1 91 = .ok (.getfield 41, 3) := by decide +kernel
theorem dX8_event_94 : decode mi_X8_event.2.1 94 = .ok (.aload_n 0, 1) := by decide +kernel
theorem dX8_event_95 : decode mi_X8_event.2.1 95 = .ok (.getfield 309, 3) := by decide +kernel
theorem dX8_event_98 : decode mi_X8_event.2.1 98 = .ok (.iload_n 3, 1) := by decide +kernel
theorem dX8_event_99 : decode mi_X8_event.2.1 99 = .ok (.iastore, 1) := by decide +kernel
theorem dX8_event_100 : decode mi_X8_event.2.1 100 = .ok (.aload_n 0, 1) := by decide +kernel
theorem dX8_event_101 : decode mi_X8_event.2.1 101 = .ok (.getfield 44, 3) := by decide +kernel
theorem dX8_event_104 : decode mi_X8_event.2.1 104 = .ok (.aload_n 0, 1) := by decide +kernel
theorem dX8_event_105 : decode mi_X8_event.2.1 105 = .ok (.getfield 309, 3) := by decide +kernel
theorem dX8_event_108 : decode mi_X8_event.2.1 108 = .ok (.iload 4, 2) := by decide +kernel
theorem dX8_event_110 : decode mi_X8_event.2.1 110 = .ok (.iastore, 1) := by decide +kernel
theorem dX8_event_111 : decode mi_X8_event.2.1 111 = .ok (.aload_n 0, 1) := by decide +kernel
theorem dX8_event_112 : decode mi_X8_event.2.1 112 = .ok (.getfield 47, 3) := by decide +kernel
theorem dX8_event_115 : decode mi_X8_event.2.1 115 = .ok (.aload_n 0, 1) := by decide +kernel
theorem dX8_event_116 : decode mi_X8_event.2.1 116 = .ok (.getfield 309, 3) := by decide +kernel
theorem dX8_event_119 : decode mi_X8_event.2.1 119 = .ok (.iload 5, 2) := by decide +kernel
theorem dX8_event_121 : decode mi_X8_event.2.1 121 = .ok (.iastore, 1) := by decide +kernel
theorem dX8_event_122 : decode mi_X8_event.2.1 122 = .ok (.aload_n 0, 1) := by decide +kernel
theorem dX8_event_123 : decode mi_X8_event.2.1 123 = .ok (.getfield 50, 3) := by decide +kernel
theorem dX8_event_126 : decode mi_X8_event.2.1 126 = .ok (.aload_n 0, 1) := by decide +kernel
theorem dX8_event_127 : decode mi_X8_event.2.1 127 = .ok (.getfield 309, 3) := by decide +kernel
theorem dX8_event_130 : decode mi_X8_event.2.1 130 = .ok (.iload 6, 2) := by decide +kernel
theorem dX8_event_132 : decode mi_X8_event.2.1 132 = .ok (.iastore, 1) := by decide +kernel
theorem dX8_event_133 : decode mi_X8_event.2.1 133 = .ok (.aload_n 0, 1) := by decide +kernel
theorem dX8_event_134 : decode mi_X8_event.2.1 134 = .ok (.getfield 53, 3) := by decide +kernel
theorem dX8_event_137 : decode mi_X8_event.2.1 137 = .ok (.aload_n 0, 1) := by decide +kernel
theorem dX8_event_138 : decode mi_X8_event.2.1 138 = .ok (.getfield 309, 3) := by decide +kernel
theorem dX8_event_141 : decode mi_X8_event.2.1 141 = .ok (.iload 7, 2) := by decide +kernel
theorem dX8_event_143 : decode mi_X8_event.2.1 143 = .ok (.iastore, 1) := by decide +kernel
theorem dX8_event_144 : decode mi_X8_event.2.1 144 = .ok (.aload_n 0, 1) := by decide +kernel
theorem dX8_event_145 : decode mi_X8_event.2.1 145 = .ok (.getfield 56, 3) := by decide +kernel
theorem dX8_event_148 : decode mi_X8_event.2.1 148 = .ok (.aload_n 0, 1) := by decide +kernel
theorem dX8_event_149 : decode mi_X8_event.2.1 149 = .ok (.getfield 309, 3) := by decide +kernel
theorem dX8_event_152 : decode mi_X8_event.2.1 152 = .ok (.iload 8, 2) := by decide +kernel
theorem dX8_event_154 : decode mi_X8_event.2.1 154 = .ok (.iastore, 1) := by decide +kernel
theorem dX8_event_155 : decode mi_X8_event.2.1 155 = .ok (.aload_n 0, 1) := by decide +kernel
theorem dX8_event_156 : decode mi_X8_event.2.1 156 = .ok (.getfield 59, 3) := by decide +kernel
theorem dX8_event_159 : decode mi_X8_event.2.1 159 = .ok (.aload_n 0, 1) := by decide +kernel
theorem dX8_event_160 : decode mi_X8_event.2.1 160 = .ok (.getfield 309, 3) := by decide +kernel
theorem dX8_event_163 : decode mi_X8_event.2.1 163 = .ok (.iload 9, 2) := by decide +kernel
theorem dX8_event_165 : decode mi_X8_event.2.1 165 = .ok (.iastore, 1) := by decide +kernel
theorem dX8_event_166 : decode mi_X8_event.2.1 166 = .ok (.aload_n 0, 1) := by decide +kernel
theorem dX8_event_167 : decode mi_X8_event.2.1 167 = .ok (.getfield 62, 3) := by decide +kernel
theorem dX8_event_170 : decode mi_X8_event.2.1 170 = .ok (.aload_n 0, 1) := by decide +kernel
theorem dX8_event_171 : decode mi_X8_event.2.1 171 = .ok (.getfield 309, 3) := by decide +kernel
theorem dX8_event_174 : decode mi_X8_event.2.1 174 = .ok (.iload 10, 2) := by decide +kernel
theorem dX8_event_176 : decode mi_X8_event.2.1 176 = .ok (.iastore, 1) := by decide +kernel
theorem dX8_event_177 : decode mi_X8_event.2.1 177 = .ok (.aload_n 0, 1) := by decide +kernel
theorem dX8_event_178 : decode mi_X8_event.2.1 178 = .ok (.dup, 1) := by decide +kernel
theorem dX8_event_179 : decode mi_X8_event.2.1 179 = .ok (.getfield 309, 3) := by decide +kernel
theorem dX8_event_182 : decode mi_X8_event.2.1 182 = .ok (.iconst 1, 1) := by decide +kernel
theorem dX8_event_183 : decode mi_X8_event.2.1 183 = .ok (.iadd, 1) := by decide +kernel
theorem dX8_event_184 : decode mi_X8_event.2.1 184 = .ok (.putfield 309, 3) := by decide +kernel
theorem dX8_event_187 : decode mi_X8_event.2.1 187 = .ok (.aload_n 0, 1) := by decide +kernel
theorem dX8_event_188 : decode mi_X8_event.2.1 188 = .ok (.iload 9, 2) := by decide +kernel
theorem dX8_event_190 : decode mi_X8_event.2.1 190 = .ok (.putfield 312, 3) := by decide +kernel
theorem dX8_event_193 : decode mi_X8_event.2.1 193 = .ok (.aload_n 0, 1) := by decide +kernel
theorem dX8_event_194 : decode mi_X8_event.2.1 194 = .ok (.iload 10, 2) := by decide +kernel
theorem dX8_event_196 : decode mi_X8_event.2.1 196 = .ok (.putfield 315, 3) := by decide +kernel
theorem dX8_event_199 : decode mi_X8_event.2.1 199 = .ok (.aload_n 0, 1) := by decide +kernel
theorem dX8_event_200 : decode mi_X8_event.2.1 200 = .ok (.getfield 309, 3) := by decide +kernel
theorem dX8_event_203 : decode mi_X8_event.2.1 203 = .ok (.iconst 1, 1) := by decide +kernel
theorem dX8_event_204 : decode mi_X8_event.2.1 204 = .ok (.isub, 1) := by decide +kernel
theorem dX8_event_205 : decode mi_X8_event.2.1 205 = .ok (.ireturn, 1) := by decide +kernel
theorem v_X8_event {G : ma_G} {d : Nat} {a0 : Nat} {x1 : Int32} {x2 : Int32} {x3 : Int32} {x4 : Int32} {x5 : Int32} {x6 : Int32} {x7 : Int32} {x8 : Int32} {x9 : Int32} {x10 : Int32} {h : ah_T} {Q : Option ma_V → ah_T → Prop} {E : Nat → ah_T → Prop} (La0_h : LY8 h a0) (H : (x9.toInt64 < (0 : Int64) → ∀ h2 : ah_T, h2 = ah_wI h a0 0 (5 : Int32) → ah_ext h h2 → Q (some (iv (-1 : Int32))) h2) ∧ (¬ x9.toInt64 < (0 : Int64) → ((519 : Int64) < x9.toInt64 → ∀ h4 : ah_T, h4 = ah_wI h a0 0 (5 : Int32) → ah_ext h h4 → Q (some (iv (-1 : Int32))) h4) ∧ (¬ (519 : Int64) < x9.toInt64 → (x10.toInt64 < x9.toInt64 → ∀ h6 : ah_T, h6 = ah_wI h a0 0 (5 : Int32) → ah_ext h h6 → Q (some (iv (-1 : Int32))) h6) ∧ (¬ x10.toInt64 < x9.toInt64 → ((519 : Int64) < x10.toInt64 → ∀ h8 : ah_T, h8 = ah_wI h a0 0 (5 : Int32) → ah_ext h h8 → Q (some (iv (-1 : Int32))) h8) ∧ (¬ (519 : Int64) < x10.toInt64 → (¬ (ah_I h a0 7) = (120 : Int32) → (x9 < (ah_I h a0 10) → ∀ h11 : ah_T, h11 = ah_wI h a0 0 (12 : Int32) → ah_ext h h11 → Q (some (iv (-1 : Int32))) h11) ∧ (¬ x9 < (ah_I h a0 10) → ((ah_I h a0 9) ≤ x10 → vp_in (ah_I h a0 7) 120 ∧ ∀ h14 : ah_T, h14 = ah_wI h (a0 + 9) (ah_I h a0 7).toNatClampNeg x1 → ah_ext h h14 → ∀ h15 : ah_T, h15 = ah_wI h14 (a0 + 10) (ah_I h a0 7).toNatClampNeg x2 → ah_ext h14 h15 → ∀ h16 : ah_T, h16 = ah_wI h15 (a0 + 11) (ah_I h a0 7).toNatClampNeg x3 → ah_ext h15 h16 → ∀ h17 : ah_T, h17 = ah_wI h16 (a0 + 12) (ah_I h a0 7).toNatClampNeg x4 → ah_ext h16 h17 → ∀ h18 : ah_T, h18 = ah_wI h17 (a0 + 13) (ah_I h a0 7).toNatClampNeg x5 → ah_ext h17 h18 → ∀ h19 : ah_T, h19 = ah_wI h18 (a0 + 14) (ah_I h a0 7).toNatClampNeg x6 → ah_ext h18 h19 → ∀ h20 : ah_T, h20 = ah_wI h19 (a0 + 15) (ah_I h a0 7).toNatClampNeg x7 → ah_ext h19 h20 → ∀ h21 : ah_T, h21 = ah_wI h20 (a0 + 16) (ah_I h a0 7).toNatClampNeg x8 → ah_ext h20 h21 → ∀ h22 : ah_T, h22 = ah_wI h21 (a0 + 17) (ah_I h a0 7).toNatClampNeg x9 → ah_ext h21 h22 → ∀ h23 : ah_T, h23 = ah_wI h22 (a0 + 18) (ah_I h a0 7).toNatClampNeg x10 → ah_ext h22 h23 → ∀ h24 : ah_T, h24 = ah_wI h23 a0 7 ((ah_I h a0 7) + (1 : Int32)) → ah_ext h23 h24 → ∀ h25 : ah_T, h25 = ah_wI h24 a0 10 x9 → ah_ext h24 h25 → ∀ h26 : ah_T, h26 = ah_wI h25 a0 9 x10 → ah_ext h25 h26 → Q (some (iv (((ah_I h a0 7) + (1 : Int32)) - (1 : Int32)))) h26) ∧ (¬ (ah_I h a0 9) ≤ x10 → ∀ h27 : ah_T, h27 = ah_wI h a0 0 (12 : Int32) → ah_ext h h27 → Q (some (iv (-1 : Int32))) h27))) ∧ ((ah_I h a0 7) = (120 : Int32) → ∀ h28 : ah_T, h28 = ah_wI h a0 0 (7 : Int32) → ah_ext h h28 → Q (some (iv (-1 : Int32))) h28)))))) : MX G mi_X8_event (d + 2) 0 [some (rv a0), some (iv x1), some (iv x2), some (iv x3), some (iv x4), some (iv x5), some (iv x6), some (iv x7), some (iv x8), some (iv x9), some (iv x10)] [] h Q E := by
  refine mx_iload dX8_event_0 rfl ?_
  refine mx_callS (y' := mi_X8_isDay) (vs := [iv x9]) (st := []) (al' := [some (iv x9)]) S_X8_isDay q2028 dX8_event_2 rfl rfl (Nat.le_of_ble_eq_true rfl) (Nat.le_of_ble_eq_true rfl) ?_
  refine mx_iload_n dX8_isDay_0 rfl rfl ?_
  refine mx_i2l dX8_isDay_1 ?_
  refine mx_lconst dX8_isDay_2 lc_0 ?_
  refine mx_ldc2 q2031 dX8_isDay_3 ?_
  refine mx_callS (y' := mi_X8_isIn) (vs := [jv x9.toInt64, jv (0 : Int64), jv (519 : Int64)]) (st := []) (al' := [some (jv x9.toInt64), none, some (jv (0 : Int64)), none, some (jv (519 : Int64)), none]) S_X8_isIn q1996 dX8_isDay_6 rfl rfl (Nat.le_of_ble_eq_true rfl) (Nat.le_of_ble_eq_true rfl) ?_
  refine mx_lload_n dX8_isIn_0 rfl rfl ?_
  refine mx_lload_n dX8_isIn_1 rfl rfl ?_
  refine mx_lif_lt (tgt := 17) dX8_isIn_2 dX8_isIn_3 rfl (fun c1 => ?_) (fun c1 => ?_)
  · have H := H.1 c1
    refine mx_iconst dX8_isIn_17 ic_0 ?_
    refine mx_zretK rfl dX8_isIn_18 (Or.inl rfl) ?_
    refine mx_zretK rfl dX8_isDay_9 (Or.inl rfl) ?_
    refine mx_if_eq (tgt := 23) dX8_event_5 rfl (fun _ => ?_) (fun _ => absurd ‹_› (by decide))
    refine mx_aload_n dX8_event_23 rfl rfl ?_
    refine mx_iconst dX8_event_24 ic_5 ?_
    refine mx_callV 8 (y' := mi_X8_refuse) (vs := [iv (5 : Int32)]) (st := []) (al' := [some (rv a0), some (iv (5 : Int32))]) cl_8 V_X8_refuse (Or.inl q1999) dX8_event_25 rfl rfl (Nat.le_of_ble_eq_true rfl) (Nat.le_of_ble_eq_true rfl) (ly8_k La0_h) ?_
    refine mx_aload_n dX8_refuse_0 rfl rfl ?_
    refine mx_iload_n dX8_refuse_1 rfl rfl ?_
    refine mx_putI 8 0 (ref := "PrairiePoolModel") cl_8 (Nat.le_of_ble_eq_true rfl) (Or.inl q1627) (Or.inl rfl) dX8_refuse_2 (Or.inl rfl) rfl (ly8_k La0_h) ?_
    refine mx_nmI  (fun h2 eh2 Xh2 Kh2 Lh2 => ?_)
    have H := H h2 eh2 Xh2
    have La0_h2 := La0_h.ext Xh2
    refine mx_iconst dX8_refuse_5 ic_m1 ?_
    refine mx_iretK rfl dX8_refuse_6 ?_
    exact mx_iret rfl dX8_event_28 H
  · have H := H.2 c1
    refine mx_lload_n dX8_isIn_6 rfl rfl ?_
    refine mx_lload dX8_isIn_7 rfl ?_
    refine mx_lif_gt (tgt := 17) dX8_isIn_9 dX8_isIn_10 rfl (fun c3 => ?_) (fun c3 => ?_)
    · have H := H.1 c3
      refine mx_iconst dX8_isIn_17 ic_0 ?_
      refine mx_zretK rfl dX8_isIn_18 (Or.inl rfl) ?_
      refine mx_zretK rfl dX8_isDay_9 (Or.inl rfl) ?_
      refine mx_if_eq (tgt := 23) dX8_event_5 rfl (fun _ => ?_) (fun _ => absurd ‹_› (by decide))
      refine mx_aload_n dX8_event_23 rfl rfl ?_
      refine mx_iconst dX8_event_24 ic_5 ?_
      refine mx_callV 8 (y' := mi_X8_refuse) (vs := [iv (5 : Int32)]) (st := []) (al' := [some (rv a0), some (iv (5 : Int32))]) cl_8 V_X8_refuse (Or.inl q1999) dX8_event_25 rfl rfl (Nat.le_of_ble_eq_true rfl) (Nat.le_of_ble_eq_true rfl) (ly8_k La0_h) ?_
      refine mx_aload_n dX8_refuse_0 rfl rfl ?_
      refine mx_iload_n dX8_refuse_1 rfl rfl ?_
      refine mx_putI 8 0 (ref := "PrairiePoolModel") cl_8 (Nat.le_of_ble_eq_true rfl) (Or.inl q1627) (Or.inl rfl) dX8_refuse_2 (Or.inl rfl) rfl (ly8_k La0_h) ?_
      refine mx_nmI  (fun h4 eh4 Xh4 Kh4 Lh4 => ?_)
      have H := H h4 eh4 Xh4
      have La0_h4 := La0_h.ext Xh4
      refine mx_iconst dX8_refuse_5 ic_m1 ?_
      refine mx_iretK rfl dX8_refuse_6 ?_
      exact mx_iret rfl dX8_event_28 H
    · have H := H.2 c3
      refine mx_iconst dX8_isIn_13 ic_1 ?_
      refine mx_goto (tgt := 18) dX8_isIn_14 rfl ?_
      refine mx_zretK rfl dX8_isIn_18 (Or.inr rfl) ?_
      refine mx_zretK rfl dX8_isDay_9 (Or.inr rfl) ?_
      refine mx_if_eq (tgt := 23) dX8_event_5 rfl (fun _ => absurd ‹_› (by decide)) (fun _ => ?_)
      refine mx_iload dX8_event_8 rfl ?_
      refine mx_i2l dX8_event_10 ?_
      refine mx_iload dX8_event_11 rfl ?_
      refine mx_i2l dX8_event_13 ?_
      refine mx_ldc2 q2031 dX8_event_14 ?_
      refine mx_callS (y' := mi_X8_isIn) (vs := [jv x10.toInt64, jv x9.toInt64, jv (519 : Int64)]) (st := []) (al' := [some (jv x10.toInt64), none, some (jv x9.toInt64), none, some (jv (519 : Int64)), none]) S_X8_isIn q1996 dX8_event_17 rfl rfl (Nat.le_of_ble_eq_true rfl) (Nat.le_of_ble_eq_true rfl) ?_
      refine mx_lload_n dX8_isIn_0 rfl rfl ?_
      refine mx_lload_n dX8_isIn_1 rfl rfl ?_
      refine mx_lif_lt (tgt := 17) dX8_isIn_2 dX8_isIn_3 rfl (fun c5 => ?_) (fun c5 => ?_)
      · have H := H.1 c5
        refine mx_iconst dX8_isIn_17 ic_0 ?_
        refine mx_zretK rfl dX8_isIn_18 (Or.inl rfl) ?_
        refine mx_if_ne (tgt := 29) dX8_event_20 rfl (fun _ => absurd ‹_› (by decide)) (fun _ => ?_)
        refine mx_aload_n dX8_event_23 rfl rfl ?_
        refine mx_iconst dX8_event_24 ic_5 ?_
        refine mx_callV 8 (y' := mi_X8_refuse) (vs := [iv (5 : Int32)]) (st := []) (al' := [some (rv a0), some (iv (5 : Int32))]) cl_8 V_X8_refuse (Or.inl q1999) dX8_event_25 rfl rfl (Nat.le_of_ble_eq_true rfl) (Nat.le_of_ble_eq_true rfl) (ly8_k La0_h) ?_
        refine mx_aload_n dX8_refuse_0 rfl rfl ?_
        refine mx_iload_n dX8_refuse_1 rfl rfl ?_
        refine mx_putI 8 0 (ref := "PrairiePoolModel") cl_8 (Nat.le_of_ble_eq_true rfl) (Or.inl q1627) (Or.inl rfl) dX8_refuse_2 (Or.inl rfl) rfl (ly8_k La0_h) ?_
        refine mx_nmI  (fun h6 eh6 Xh6 Kh6 Lh6 => ?_)
        have H := H h6 eh6 Xh6
        have La0_h6 := La0_h.ext Xh6
        refine mx_iconst dX8_refuse_5 ic_m1 ?_
        refine mx_iretK rfl dX8_refuse_6 ?_
        exact mx_iret rfl dX8_event_28 H
      · have H := H.2 c5
        refine mx_lload_n dX8_isIn_6 rfl rfl ?_
        refine mx_lload dX8_isIn_7 rfl ?_
        refine mx_lif_gt (tgt := 17) dX8_isIn_9 dX8_isIn_10 rfl (fun c7 => ?_) (fun c7 => ?_)
        · have H := H.1 c7
          refine mx_iconst dX8_isIn_17 ic_0 ?_
          refine mx_zretK rfl dX8_isIn_18 (Or.inl rfl) ?_
          refine mx_if_ne (tgt := 29) dX8_event_20 rfl (fun _ => absurd ‹_› (by decide)) (fun _ => ?_)
          refine mx_aload_n dX8_event_23 rfl rfl ?_
          refine mx_iconst dX8_event_24 ic_5 ?_
          refine mx_callV 8 (y' := mi_X8_refuse) (vs := [iv (5 : Int32)]) (st := []) (al' := [some (rv a0), some (iv (5 : Int32))]) cl_8 V_X8_refuse (Or.inl q1999) dX8_event_25 rfl rfl (Nat.le_of_ble_eq_true rfl) (Nat.le_of_ble_eq_true rfl) (ly8_k La0_h) ?_
          refine mx_aload_n dX8_refuse_0 rfl rfl ?_
          refine mx_iload_n dX8_refuse_1 rfl rfl ?_
          refine mx_putI 8 0 (ref := "PrairiePoolModel") cl_8 (Nat.le_of_ble_eq_true rfl) (Or.inl q1627) (Or.inl rfl) dX8_refuse_2 (Or.inl rfl) rfl (ly8_k La0_h) ?_
          refine mx_nmI  (fun h8 eh8 Xh8 Kh8 Lh8 => ?_)
          have H := H h8 eh8 Xh8
          have La0_h8 := La0_h.ext Xh8
          refine mx_iconst dX8_refuse_5 ic_m1 ?_
          refine mx_iretK rfl dX8_refuse_6 ?_
          exact mx_iret rfl dX8_event_28 H
        · have H := H.2 c7
          refine mx_iconst dX8_isIn_13 ic_1 ?_
          refine mx_goto (tgt := 18) dX8_isIn_14 rfl ?_
          refine mx_zretK rfl dX8_isIn_18 (Or.inr rfl) ?_
          refine mx_if_ne (tgt := 29) dX8_event_20 rfl (fun _ => ?_) (fun _ => absurd ‹_› (by decide))
          refine mx_aload_n dX8_event_29 rfl rfl ?_
          refine mx_get 8 7 (ref := "PrairiePoolModel") cl_8 (Nat.le_of_ble_eq_true rfl) (Or.inl q1634) (Or.inl rfl) dX8_event_30 (fv_8_7 _ _) (ly8_k La0_h) ?_
          refine mx_bipush dX8_event_33 ib_120 ?_
          refine mx_icmp_ne (tgt := 45) dX8_event_35 rfl (fun c9 => ?_) (fun c9 => ?_)
          · have H := H.1 c9
            refine mx_iload dX8_event_45 rfl ?_
            refine mx_aload_n dX8_event_47 rfl rfl ?_
            refine mx_get 8 10 (ref := "PrairiePoolModel") cl_8 (Nat.le_of_ble_eq_true rfl) (Or.inl q1637) (Or.inl rfl) dX8_event_48 (fv_8_10 _ _) (ly8_k La0_h) ?_
            refine mx_icmp_lt (tgt := 63) dX8_event_51 rfl (fun c10 => ?_) (fun c10 => ?_)
            · have H := H.1 c10
              refine mx_aload_n dX8_event_63 rfl rfl ?_
              refine mx_bipush dX8_event_64 ib_12 ?_
              refine mx_callV 8 (y' := mi_X8_refuse) (vs := [iv (12 : Int32)]) (st := []) (al' := [some (rv a0), some (iv (12 : Int32))]) cl_8 V_X8_refuse (Or.inl q1999) dX8_event_66 rfl rfl (Nat.le_of_ble_eq_true rfl) (Nat.le_of_ble_eq_true rfl) (ly8_k La0_h) ?_
              refine mx_aload_n dX8_refuse_0 rfl rfl ?_
              refine mx_iload_n dX8_refuse_1 rfl rfl ?_
              refine mx_putI 8 0 (ref := "PrairiePoolModel") cl_8 (Nat.le_of_ble_eq_true rfl) (Or.inl q1627) (Or.inl rfl) dX8_refuse_2 (Or.inl rfl) rfl (ly8_k La0_h) ?_
              refine mx_nmI  (fun h11 eh11 Xh11 Kh11 Lh11 => ?_)
              have H := H h11 eh11 Xh11
              have La0_h11 := La0_h.ext Xh11
              refine mx_iconst dX8_refuse_5 ic_m1 ?_
              refine mx_iretK rfl dX8_refuse_6 ?_
              exact mx_iret rfl dX8_event_69 H
            · have H := H.2 c10
              refine mx_iload dX8_event_54 rfl ?_
              refine mx_aload_n dX8_event_56 rfl rfl ?_
              refine mx_get 8 9 (ref := "PrairiePoolModel") cl_8 (Nat.le_of_ble_eq_true rfl) (Or.inl q1636) (Or.inl rfl) dX8_event_57 (fv_8_9 _ _) (ly8_k La0_h) ?_
              refine mx_icmp_ge (tgt := 70) dX8_event_60 rfl (fun c12 => ?_) (fun c12 => ?_)
              · have H := H.1 c12
                refine mx_aload_n dX8_event_70 rfl rfl ?_
                refine mx_get 8 16 (ref := "PrairiePoolModel") cl_8 (Nat.le_of_ble_eq_true rfl) (Or.inl q1643) (Or.inl rfl) dX8_event_71 (fv_8_16 _ _) (ly8_k La0_h) ?_
                refine mx_tr (ly8_R_0_16 La0_h) ?_
                refine mx_aload_n dX8_event_74 rfl rfl ?_
                refine mx_get 8 7 (ref := "PrairiePoolModel") cl_8 (Nat.le_of_ble_eq_true rfl) (Or.inl q1634) (Or.inl rfl) dX8_event_75 (fv_8_7 _ _) (ly8_k La0_h) ?_
                refine mx_iload_n dX8_event_78 rfl rfl ?_
                obtain ⟨k13, H⟩ := H
                refine my_iast dX8_event_79 rfl (ly8_A_9 La0_h k13) ?_
                refine mx_nmI  (fun h14 eh14 Xh14 Kh14 Lh14 => ?_)
                have H := H h14 eh14 Xh14
                have La0_h14 := La0_h.ext Xh14
                refine mx_aload_n dX8_event_80 rfl rfl ?_
                refine mx_get 8 17 (ref := "PrairiePoolModel") cl_8 (Nat.le_of_ble_eq_true rfl) (Or.inl q1644) (Or.inl rfl) dX8_event_81 (fv_8_17 _ _) (ly8_k La0_h14) ?_
                refine mx_tr (ly8_R_0_17 La0_h14) ?_
                refine mx_aload_n dX8_event_84 rfl rfl ?_
                refine mx_get 8 7 (ref := "PrairiePoolModel") cl_8 (Nat.le_of_ble_eq_true rfl) (Or.inl q1634) (Or.inl rfl) dX8_event_85 (fv_8_7 _ _) (ly8_k La0_h14) ?_
                refine mx_ti (ah_skIA eh14 (by omega)) ?_
                refine mx_iload_n dX8_event_88 rfl rfl ?_
                refine my_iast dX8_event_89 rfl (ly8_A_10 La0_h14 k13) ?_
                refine mx_nmI  (fun h15 eh15 Xh15 Kh15 Lh15 => ?_)
                have H := H h15 eh15 Xh15
                have Kh15 := Kh15.trans Kh14
                have Lh15 := Lh15.trans Lh14
                have La0_h15 := La0_h14.ext Xh15
                refine mx_aload_n dX8_event_90 rfl rfl ?_
                refine mx_get 8 18 (ref := "PrairiePoolModel") cl_8 (Nat.le_of_ble_eq_true rfl) (Or.inl q1645) (Or.inl rfl) dX8_event_91 (fv_8_18 _ _) (ly8_k La0_h15) ?_
                refine mx_tr (ly8_R_0_18 La0_h15) ?_
                refine mx_aload_n dX8_event_94 rfl rfl ?_
                refine mx_get 8 7 (ref := "PrairiePoolModel") cl_8 (Nat.le_of_ble_eq_true rfl) (Or.inl q1634) (Or.inl rfl) dX8_event_95 (fv_8_7 _ _) (ly8_k La0_h15) ?_
                refine mx_ti ((ah_skIA eh15 (by omega)).trans (ah_skIA eh14 (by omega))) ?_
                refine mx_iload_n dX8_event_98 rfl rfl ?_
                refine my_iast dX8_event_99 rfl (ly8_A_11 La0_h15 k13) ?_
                refine mx_nmI  (fun h16 eh16 Xh16 Kh16 Lh16 => ?_)
                have H := H h16 eh16 Xh16
                have Kh16 := Kh16.trans Kh15
                have Lh16 := Lh16.trans Lh15
                have La0_h16 := La0_h15.ext Xh16
                refine mx_aload_n dX8_event_100 rfl rfl ?_
                refine mx_get 8 19 (ref := "PrairiePoolModel") cl_8 (Nat.le_of_ble_eq_true rfl) (Or.inl q1646) (Or.inl rfl) dX8_event_101 (fv_8_19 _ _) (ly8_k La0_h16) ?_
                refine mx_tr (ly8_R_0_19 La0_h16) ?_
                refine mx_aload_n dX8_event_104 rfl rfl ?_
                refine mx_get 8 7 (ref := "PrairiePoolModel") cl_8 (Nat.le_of_ble_eq_true rfl) (Or.inl q1634) (Or.inl rfl) dX8_event_105 (fv_8_7 _ _) (ly8_k La0_h16) ?_
                refine mx_ti (((ah_skIA eh16 (by omega)).trans (ah_skIA eh15 (by omega))).trans (ah_skIA eh14 (by omega))) ?_
                refine mx_iload dX8_event_108 rfl ?_
                refine my_iast dX8_event_110 rfl (ly8_A_12 La0_h16 k13) ?_
                refine mx_nmI  (fun h17 eh17 Xh17 Kh17 Lh17 => ?_)
                have H := H h17 eh17 Xh17
                have Kh17 := Kh17.trans Kh16
                have Lh17 := Lh17.trans Lh16
                have La0_h17 := La0_h16.ext Xh17
                refine mx_aload_n dX8_event_111 rfl rfl ?_
                refine mx_get 8 20 (ref := "PrairiePoolModel") cl_8 (Nat.le_of_ble_eq_true rfl) (Or.inl q1647) (Or.inl rfl) dX8_event_112 (fv_8_20 _ _) (ly8_k La0_h17) ?_
                refine mx_tr (ly8_R_0_20 La0_h17) ?_
                refine mx_aload_n dX8_event_115 rfl rfl ?_
                refine mx_get 8 7 (ref := "PrairiePoolModel") cl_8 (Nat.le_of_ble_eq_true rfl) (Or.inl q1634) (Or.inl rfl) dX8_event_116 (fv_8_7 _ _) (ly8_k La0_h17) ?_
                refine mx_ti ((((ah_skIA eh17 (by omega)).trans (ah_skIA eh16 (by omega))).trans (ah_skIA eh15 (by omega))).trans (ah_skIA eh14 (by omega))) ?_
                refine mx_iload dX8_event_119 rfl ?_
                refine my_iast dX8_event_121 rfl (ly8_A_13 La0_h17 k13) ?_
                refine mx_nmI  (fun h18 eh18 Xh18 Kh18 Lh18 => ?_)
                have H := H h18 eh18 Xh18
                have Kh18 := Kh18.trans Kh17
                have Lh18 := Lh18.trans Lh17
                have La0_h18 := La0_h17.ext Xh18
                refine mx_aload_n dX8_event_122 rfl rfl ?_
                refine mx_get 8 21 (ref := "PrairiePoolModel") cl_8 (Nat.le_of_ble_eq_true rfl) (Or.inl q1648) (Or.inl rfl) dX8_event_123 (fv_8_21 _ _) (ly8_k La0_h18) ?_
                refine mx_tr (ly8_R_0_21 La0_h18) ?_
                refine mx_aload_n dX8_event_126 rfl rfl ?_
                refine mx_get 8 7 (ref := "PrairiePoolModel") cl_8 (Nat.le_of_ble_eq_true rfl) (Or.inl q1634) (Or.inl rfl) dX8_event_127 (fv_8_7 _ _) (ly8_k La0_h18) ?_
                refine mx_ti (((((ah_skIA eh18 (by omega)).trans (ah_skIA eh17 (by omega))).trans (ah_skIA eh16 (by omega))).trans (ah_skIA eh15 (by omega))).trans (ah_skIA eh14 (by omega))) ?_
                refine mx_iload dX8_event_130 rfl ?_
                refine my_iast dX8_event_132 rfl (ly8_A_14 La0_h18 k13) ?_
                refine mx_nmI  (fun h19 eh19 Xh19 Kh19 Lh19 => ?_)
                have H := H h19 eh19 Xh19
                have Kh19 := Kh19.trans Kh18
                have Lh19 := Lh19.trans Lh18
                have La0_h19 := La0_h18.ext Xh19
                refine mx_aload_n dX8_event_133 rfl rfl ?_
                refine mx_get 8 22 (ref := "PrairiePoolModel") cl_8 (Nat.le_of_ble_eq_true rfl) (Or.inl q1649) (Or.inl rfl) dX8_event_134 (fv_8_22 _ _) (ly8_k La0_h19) ?_
                refine mx_tr (ly8_R_0_22 La0_h19) ?_
                refine mx_aload_n dX8_event_137 rfl rfl ?_
                refine mx_get 8 7 (ref := "PrairiePoolModel") cl_8 (Nat.le_of_ble_eq_true rfl) (Or.inl q1634) (Or.inl rfl) dX8_event_138 (fv_8_7 _ _) (ly8_k La0_h19) ?_
                refine mx_ti ((((((ah_skIA eh19 (by omega)).trans (ah_skIA eh18 (by omega))).trans (ah_skIA eh17 (by omega))).trans (ah_skIA eh16 (by omega))).trans (ah_skIA eh15 (by omega))).trans (ah_skIA eh14 (by omega))) ?_
                refine mx_iload dX8_event_141 rfl ?_
                refine my_iast dX8_event_143 rfl (ly8_A_15 La0_h19 k13) ?_
                refine mx_nmI  (fun h20 eh20 Xh20 Kh20 Lh20 => ?_)
                have H := H h20 eh20 Xh20
                have Kh20 := Kh20.trans Kh19
                have Lh20 := Lh20.trans Lh19
                have La0_h20 := La0_h19.ext Xh20
                refine mx_aload_n dX8_event_144 rfl rfl ?_
                refine mx_get 8 23 (ref := "PrairiePoolModel") cl_8 (Nat.le_of_ble_eq_true rfl) (Or.inl q1650) (Or.inl rfl) dX8_event_145 (fv_8_23 _ _) (ly8_k La0_h20) ?_
                refine mx_tr (ly8_R_0_23 La0_h20) ?_
                refine mx_aload_n dX8_event_148 rfl rfl ?_
                refine mx_get 8 7 (ref := "PrairiePoolModel") cl_8 (Nat.le_of_ble_eq_true rfl) (Or.inl q1634) (Or.inl rfl) dX8_event_149 (fv_8_7 _ _) (ly8_k La0_h20) ?_
                refine mx_ti (((((((ah_skIA eh20 (by omega)).trans (ah_skIA eh19 (by omega))).trans (ah_skIA eh18 (by omega))).trans (ah_skIA eh17 (by omega))).trans (ah_skIA eh16 (by omega))).trans (ah_skIA eh15 (by omega))).trans (ah_skIA eh14 (by omega))) ?_
                refine mx_iload dX8_event_152 rfl ?_
                refine my_iast dX8_event_154 rfl (ly8_A_16 La0_h20 k13) ?_
                refine mx_nmI  (fun h21 eh21 Xh21 Kh21 Lh21 => ?_)
                have H := H h21 eh21 Xh21
                have Kh21 := Kh21.trans Kh20
                have Lh21 := Lh21.trans Lh20
                have La0_h21 := La0_h20.ext Xh21
                refine mx_aload_n dX8_event_155 rfl rfl ?_
                refine mx_get 8 24 (ref := "PrairiePoolModel") cl_8 (Nat.le_of_ble_eq_true rfl) (Or.inl q1651) (Or.inl rfl) dX8_event_156 (fv_8_24 _ _) (ly8_k La0_h21) ?_
                refine mx_tr (ly8_R_0_24 La0_h21) ?_
                refine mx_aload_n dX8_event_159 rfl rfl ?_
                refine mx_get 8 7 (ref := "PrairiePoolModel") cl_8 (Nat.le_of_ble_eq_true rfl) (Or.inl q1634) (Or.inl rfl) dX8_event_160 (fv_8_7 _ _) (ly8_k La0_h21) ?_
                refine mx_ti ((((((((ah_skIA eh21 (by omega)).trans (ah_skIA eh20 (by omega))).trans (ah_skIA eh19 (by omega))).trans (ah_skIA eh18 (by omega))).trans (ah_skIA eh17 (by omega))).trans (ah_skIA eh16 (by omega))).trans (ah_skIA eh15 (by omega))).trans (ah_skIA eh14 (by omega))) ?_
                refine mx_iload dX8_event_163 rfl ?_
                refine my_iast dX8_event_165 rfl (ly8_A_17 La0_h21 k13) ?_
                refine mx_nmI  (fun h22 eh22 Xh22 Kh22 Lh22 => ?_)
                have H := H h22 eh22 Xh22
                have Kh22 := Kh22.trans Kh21
                have Lh22 := Lh22.trans Lh21
                have La0_h22 := La0_h21.ext Xh22
                refine mx_aload_n dX8_event_166 rfl rfl ?_
                refine mx_get 8 25 (ref := "PrairiePoolModel") cl_8 (Nat.le_of_ble_eq_true rfl) (Or.inl q1652) (Or.inl rfl) dX8_event_167 (fv_8_25 _ _) (ly8_k La0_h22) ?_
                refine mx_tr (ly8_R_0_25 La0_h22) ?_
                refine mx_aload_n dX8_event_170 rfl rfl ?_
                refine mx_get 8 7 (ref := "PrairiePoolModel") cl_8 (Nat.le_of_ble_eq_true rfl) (Or.inl q1634) (Or.inl rfl) dX8_event_171 (fv_8_7 _ _) (ly8_k La0_h22) ?_
                refine mx_ti (((((((((ah_skIA eh22 (by omega)).trans (ah_skIA eh21 (by omega))).trans (ah_skIA eh20 (by omega))).trans (ah_skIA eh19 (by omega))).trans (ah_skIA eh18 (by omega))).trans (ah_skIA eh17 (by omega))).trans (ah_skIA eh16 (by omega))).trans (ah_skIA eh15 (by omega))).trans (ah_skIA eh14 (by omega))) ?_
                refine mx_iload dX8_event_174 rfl ?_
                refine my_iast dX8_event_176 rfl (ly8_A_18 La0_h22 k13) ?_
                refine mx_nmI  (fun h23 eh23 Xh23 Kh23 Lh23 => ?_)
                have H := H h23 eh23 Xh23
                have Kh23 := Kh23.trans Kh22
                have Lh23 := Lh23.trans Lh22
                have La0_h23 := La0_h22.ext Xh23
                refine mx_aload_n dX8_event_177 rfl rfl ?_
                refine mx_dup_r dX8_event_178 ?_
                refine mx_get 8 7 (ref := "PrairiePoolModel") cl_8 (Nat.le_of_ble_eq_true rfl) (Or.inl q1634) (Or.inl rfl) dX8_event_179 (fv_8_7 _ _) (ly8_k La0_h23) ?_
                refine mx_ti ((((((((((ah_skIA eh23 (by omega)).trans (ah_skIA eh22 (by omega))).trans (ah_skIA eh21 (by omega))).trans (ah_skIA eh20 (by omega))).trans (ah_skIA eh19 (by omega))).trans (ah_skIA eh18 (by omega))).trans (ah_skIA eh17 (by omega))).trans (ah_skIA eh16 (by omega))).trans (ah_skIA eh15 (by omega))).trans (ah_skIA eh14 (by omega))) ?_
                refine mx_iconst dX8_event_182 ic_1 ?_
                refine mx_iadd dX8_event_183 ?_
                refine mx_putI 8 7 (ref := "PrairiePoolModel") cl_8 (Nat.le_of_ble_eq_true rfl) (Or.inl q1634) (Or.inl rfl) dX8_event_184 (Or.inl rfl) rfl (ly8_k La0_h23) ?_
                refine mx_nmI  (fun h24 eh24 Xh24 Kh24 Lh24 => ?_)
                have H := H h24 eh24 Xh24
                have Kh24 := Kh24.trans Kh23
                have Lh24 := Lh24.trans Lh23
                have La0_h24 := La0_h23.ext Xh24
                refine mx_aload_n dX8_event_187 rfl rfl ?_
                refine mx_iload dX8_event_188 rfl ?_
                refine mx_putI 8 10 (ref := "PrairiePoolModel") cl_8 (Nat.le_of_ble_eq_true rfl) (Or.inl q1637) (Or.inl rfl) dX8_event_190 (Or.inl rfl) rfl (ly8_k La0_h24) ?_
                refine mx_nmI  (fun h25 eh25 Xh25 Kh25 Lh25 => ?_)
                have H := H h25 eh25 Xh25
                have Kh25 := Kh25.trans Kh24
                have Lh25 := Lh25.trans Lh24
                have La0_h25 := La0_h24.ext Xh25
                refine mx_aload_n dX8_event_193 rfl rfl ?_
                refine mx_iload dX8_event_194 rfl ?_
                refine mx_putI 8 9 (ref := "PrairiePoolModel") cl_8 (Nat.le_of_ble_eq_true rfl) (Or.inl q1636) (Or.inl rfl) dX8_event_196 (Or.inl rfl) rfl (ly8_k La0_h25) ?_
                refine mx_nmI  (fun h26 eh26 Xh26 Kh26 Lh26 => ?_)
                have H := H h26 eh26 Xh26
                have Kh26 := Kh26.trans Kh25
                have Lh26 := Lh26.trans Lh25
                have La0_h26 := La0_h25.ext Xh26
                refine mx_aload_n dX8_event_199 rfl rfl ?_
                refine mx_get 8 7 (ref := "PrairiePoolModel") cl_8 (Nat.le_of_ble_eq_true rfl) (Or.inl q1634) (Or.inl rfl) dX8_event_200 (fv_8_7 _ _) (ly8_k La0_h26) ?_
                refine mx_ti (((ah_skIK eh26 (by decide)).trans (ah_skIK eh25 (by decide))).trans (ah_hitI eh24)) ?_
                refine mx_iconst dX8_event_203 ic_1 ?_
                refine mx_isub dX8_event_204 ?_
                exact mx_iret rfl dX8_event_205 H
              · have H := H.2 c12
                refine mx_aload_n dX8_event_63 rfl rfl ?_
                refine mx_bipush dX8_event_64 ib_12 ?_
                refine mx_callV 8 (y' := mi_X8_refuse) (vs := [iv (12 : Int32)]) (st := []) (al' := [some (rv a0), some (iv (12 : Int32))]) cl_8 V_X8_refuse (Or.inl q1999) dX8_event_66 rfl rfl (Nat.le_of_ble_eq_true rfl) (Nat.le_of_ble_eq_true rfl) (ly8_k La0_h) ?_
                refine mx_aload_n dX8_refuse_0 rfl rfl ?_
                refine mx_iload_n dX8_refuse_1 rfl rfl ?_
                refine mx_putI 8 0 (ref := "PrairiePoolModel") cl_8 (Nat.le_of_ble_eq_true rfl) (Or.inl q1627) (Or.inl rfl) dX8_refuse_2 (Or.inl rfl) rfl (ly8_k La0_h) ?_
                refine mx_nmI  (fun h27 eh27 Xh27 Kh27 Lh27 => ?_)
                have H := H h27 eh27 Xh27
                have La0_h27 := La0_h.ext Xh27
                refine mx_iconst dX8_refuse_5 ic_m1 ?_
                refine mx_iretK rfl dX8_refuse_6 ?_
                exact mx_iret rfl dX8_event_69 H
          · have H := H.2 c9
            refine mx_aload_n dX8_event_38 rfl rfl ?_
            refine mx_bipush dX8_event_39 ib_7 ?_
            refine mx_callV 8 (y' := mi_X8_refuse) (vs := [iv (7 : Int32)]) (st := []) (al' := [some (rv a0), some (iv (7 : Int32))]) cl_8 V_X8_refuse (Or.inl q1999) dX8_event_41 rfl rfl (Nat.le_of_ble_eq_true rfl) (Nat.le_of_ble_eq_true rfl) (ly8_k La0_h) ?_
            refine mx_aload_n dX8_refuse_0 rfl rfl ?_
            refine mx_iload_n dX8_refuse_1 rfl rfl ?_
            refine mx_putI 8 0 (ref := "PrairiePoolModel") cl_8 (Nat.le_of_ble_eq_true rfl) (Or.inl q1627) (Or.inl rfl) dX8_refuse_2 (Or.inl rfl) rfl (ly8_k La0_h) ?_
            refine mx_nmI  (fun h28 eh28 Xh28 Kh28 Lh28 => ?_)
            have H := H h28 eh28 Xh28
            have La0_h28 := La0_h.ext Xh28
            refine mx_iconst dX8_refuse_5 ic_m1 ?_
            refine mx_iretK rfl dX8_refuse_6 ?_
            exact mx_iret rfl dX8_event_44 H
theorem v_X8_isDay {G : ma_G} {d : Nat} {x0 : Int32} {h : ah_T} {Q : Option ma_V → ah_T → Prop} {E : Nat → ah_T → Prop}  (H : (x0.toInt64 < (0 : Int64) → Q (some (iv (0 : Int32))) h) ∧ (¬ x0.toInt64 < (0 : Int64) → ((519 : Int64) < x0.toInt64 → Q (some (iv (0 : Int32))) h) ∧ (¬ (519 : Int64) < x0.toInt64 → Q (some (iv (1 : Int32))) h))) : MX G mi_X8_isDay (d + 1) 0 [some (iv x0)] [] h Q E := by
  refine mx_iload_n dX8_isDay_0 rfl rfl ?_
  refine mx_i2l dX8_isDay_1 ?_
  refine mx_lconst dX8_isDay_2 lc_0 ?_
  refine mx_ldc2 q2031 dX8_isDay_3 ?_
  refine mx_callS (y' := mi_X8_isIn) (vs := [jv x0.toInt64, jv (0 : Int64), jv (519 : Int64)]) (st := []) (al' := [some (jv x0.toInt64), none, some (jv (0 : Int64)), none, some (jv (519 : Int64)), none]) S_X8_isIn q1996 dX8_isDay_6 rfl rfl (Nat.le_of_ble_eq_true rfl) (Nat.le_of_ble_eq_true rfl) ?_
  refine mx_lload_n dX8_isIn_0 rfl rfl ?_
  refine mx_lload_n dX8_isIn_1 rfl rfl ?_
  refine mx_lif_lt (tgt := 17) dX8_isIn_2 dX8_isIn_3 rfl (fun c1 => ?_) (fun c1 => ?_)
  · have H := H.1 c1
    refine mx_iconst dX8_isIn_17 ic_0 ?_
    refine mx_zretK rfl dX8_isIn_18 (Or.inl rfl) ?_
    exact mx_zret rfl dX8_isDay_9 (Or.inl rfl) H
  · have H := H.2 c1
    refine mx_lload_n dX8_isIn_6 rfl rfl ?_
    refine mx_lload dX8_isIn_7 rfl ?_
    refine mx_lif_gt (tgt := 17) dX8_isIn_9 dX8_isIn_10 rfl (fun c2 => ?_) (fun c2 => ?_)
    · have H := H.1 c2
      refine mx_iconst dX8_isIn_17 ic_0 ?_
      refine mx_zretK rfl dX8_isIn_18 (Or.inl rfl) ?_
      exact mx_zret rfl dX8_isDay_9 (Or.inl rfl) H
    · have H := H.2 c2
      refine mx_iconst dX8_isIn_13 ic_1 ?_
      refine mx_goto (tgt := 18) dX8_isIn_14 rfl ?_
      refine mx_zretK rfl dX8_isIn_18 (Or.inr rfl) ?_
      exact mx_zret rfl dX8_isDay_9 (Or.inr rfl) H
theorem dX8_car_0 : decode mi_X8_car.2.1 0 = .ok (.aload_n 0, 1) := by decide +kernel
theorem dX8_car_1 : decode mi_X8_car.2.1 1 = .ok (.iconst 0, 1) := by decide +kernel
theorem dX8_car_2 : decode mi_X8_car.2.1 2 = .ok (.putfield 257, 3) := by decide +kernel
theorem dX8_car_5 : decode mi_X8_car.2.1 5 = .ok (.aload_n 0, 1) := by decide +kernel
theorem dX8_car_6 : decode mi_X8_car.2.1 6 = .ok (.iconst 0, 1) := by decide +kernel
theorem dX8_car_7 : decode mi_X8_car.2.1 7 = .ok (.putfield 260, 3) := by decide +kernel
theorem dX8_car_10 : decode mi_X8_car.2.1 10 = .ok (.aload_n 0, 1) := by decide +kernel
theorem dX8_car_11 : decode mi_X8_car.2.1 11 = .ok (.iload_n 1, 1) := by decide +kernel
theorem dX8_car_12 : decode mi_X8_car.2.1 12 = .ok (.invokevirtual 321, 3) := by decide +kernel
theorem dX8_car_15 : decode mi_X8_car.2.1 15 = .ok (.ifCond .eq 20, 3) := by decide +kernel
theorem dX8_car_18 : decode mi_X8_car.2.1 18 = .ok (.iload_n 2, 1) := by decide +kernel
theorem dX8_car_19 : decode mi_X8_car.2.1 19 = .ok (.i2l, 1) := by decide +kernel
theorem dX8_car_20 : decode mi_X8_car.2.1 20 = .ok (.lconst 0, 1) := by decide +kernel
theorem dX8_car_21 : decode mi_X8_car.2.1 21 = .ok (.lconst 1, 1) := by decide +kernel
theorem dX8_car_22 : decode mi_X8_car.2.1 22 = .ok (.invokestatic 265, 3) := by decide +kernel
theorem dX8_car_25 : decode mi_X8_car.2.1 25 = .ok (.ifCond .eq 10, 3) := by decide +kernel
theorem dX8_car_28 : decode mi_X8_car.2.1 28 = .ok (.iload_n 3, 1) := by decide +kernel
theorem dX8_car_29 : decode mi_X8_car.2.1 29 = .ok (.invokestatic 332, 3) := by decide +kernel
theorem dX8_car_32 : decode mi_X8_car.2.1 32 = .ok (.ifCond .ne 9, 3) := by decide +kernel
theorem dX8_car_35 : decode mi_X8_car.2.1 35 = .ok (.aload_n 0, 1) := by decide +kernel
theorem dX8_car_36 : decode mi_X8_car.2.1 36 = .ok (.iconst 2, 1) := by decide +kernel
theorem dX8_car_37 : decode mi_X8_car.2.1 37 = .ok (.invokevirtual 297, 3) := by decide +kernel
theorem dX8_car_40 : decode mi_X8_car.2.1 40 = .ok (.ireturn, 1) := by decide +kernel
theorem dX8_car_41 : decode mi_X8_car.2.1 41 = .ok (.iload 4, 2) := by decide +kernel
theorem dX8_car_43 : decode mi_X8_car.2.1 43 = .ok (.invokestatic 335, 3) := by decide +kernel
theorem dX8_car_46 : decode mi_X8_car.2.1 46 = .ok (.ifCond .eq 16, 3) := by decide +kernel
theorem dX8_car_49 : decode mi_X8_car.2.1 49 = .ok (.iload 5, 2) := by decide +kernel
theorem dX8_car_51 : decode mi_X8_car.2.1 51 = .ok (.i2l, 1) := by decide +kernel
theorem dX8_car_52 : decode mi_X8_car.2.1 52 = .ok (.lconst 1, 1) := by decide +kernel
theorem dX8_car_53 : decode mi_X8_car.2.1 53 = .ok (.ldc2_w 302, 3) := by decide +kernel
theorem dX8_car_56 : decode mi_X8_car.2.1 56 = .ok (.invokestatic 265, 3) := by decide +kernel
theorem dX8_car_59 : decode mi_X8_car.2.1 59 = .ok (.ifCond .ne 9, 3) := by decide +kernel
theorem dX8_car_62 : decode mi_X8_car.2.1 62 = .ok (.aload_n 0, 1) := by decide +kernel
theorem dX8_car_63 : decode mi_X8_car.2.1 63 = .ok (.iconst 5, 1) := by decide +kernel
theorem dX8_car_64 : decode mi_X8_car.2.1 64 = .ok (.invokevirtual 297, 3) := by decide +kernel
theorem dX8_car_67 : decode mi_X8_car.2.1 67 = .ok (.ireturn, 1) := by decide +kernel
theorem dX8_car_68 : decode mi_X8_car.2.1 68 = .ok (.aload_n 0, 1) := by decide +kernel
theorem dX8_car_69 : decode mi_X8_car.2.1 69 = .ok (.iconst 1, 1) := by decide +kernel
theorem dX8_car_70 : decode mi_X8_car.2.1 70 = .ok (.iconst (-1), 1) := by decide +kernel
theorem dX8_car_71 : decode mi_X8_car.2.1 71 = .ok (.iload_n 1, 1) := by decide +kernel
theorem dX8_car_72 : decode mi_X8_car.2.1 72 = .ok (.iload_n 2, 1) := by decide +kernel
theorem dX8_car_73 : decode mi_X8_car.2.1 73 = .ok (.iload_n 3, 1) := by decide +kernel
theorem dX8_car_74 : decode mi_X8_car.2.1 74 = .ok (.iload 4, 2) := by decide +kernel
theorem dX8_car_76 : decode mi_X8_car.2.1 76 = .ok (.iload 5, 2) := by decide +kernel
theorem dX8_car_78 : decode mi_X8_car.2.1 78 = .ok (.iconst 0, 1) := by decide +kernel
theorem dX8_car_79 : decode mi_X8_car.2.1 79 = .ok (.iload 6, 2) := by decide +kernel
theorem dX8_car_81 : decode mi_X8_car.2.1 81 = .ok (.iload 7, 2) := by decide +kernel
theorem dX8_car_83 : decode mi_X8_car.2.1 83 = .ok (.invokevirtual 328, 3) := by decide +kernel
theorem dX8_car_86 : decode mi_X8_car.2.1 86 = .ok (.ireturn, 1) := by decide +kernel
theorem v_X8_car {G : ma_G} {d : Nat} {a0 : Nat} {x1 : Int32} {x2 : Int32} {x3 : Int32} {x4 : Int32} {x5 : Int32} {x6 : Int32} {x7 : Int32} {h : ah_T} {Q : Option ma_V → ah_T → Prop} {E : Nat → ah_T → Prop} (La0_h : LY8 h a0) (H : ∀ h1 : ah_T, h1 = ah_wI h a0 1 (0 : Int32) → ah_ext h h1 → ∀ h2 : ah_T, h2 = ah_wI h1 a0 0 (0 : Int32) → ah_ext h1 h2 → (x1.toInt64 < (0 : Int64) → ∀ h4 : ah_T, h4 = ah_wI h2 a0 0 (2 : Int32) → ah_ext h2 h4 → Q (some (iv (-1 : Int32))) h4) ∧ (¬ x1.toInt64 < (0 : Int64) → (((ah_I h a0 6) - (1 : Int32)).toInt64 < x1.toInt64 → ∀ h6 : ah_T, h6 = ah_wI h2 a0 0 (2 : Int32) → ah_ext h2 h6 → Q (some (iv (-1 : Int32))) h6) ∧ (¬ ((ah_I h a0 6) - (1 : Int32)).toInt64 < x1.toInt64 → (x2.toInt64 < (0 : Int64) → ∀ h8 : ah_T, h8 = ah_wI h2 a0 0 (2 : Int32) → ah_ext h2 h8 → Q (some (iv (-1 : Int32))) h8) ∧ (¬ x2.toInt64 < (0 : Int64) → ((1 : Int64) < x2.toInt64 → ∀ h10 : ah_T, h10 = ah_wI h2 a0 0 (2 : Int32) → ah_ext h2 h10 → Q (some (iv (-1 : Int32))) h10) ∧ (¬ (1 : Int64) < x2.toInt64 → (x3.toInt64 < (0 : Int64) → ∀ h12 : ah_T, h12 = ah_wI h2 a0 0 (2 : Int32) → ah_ext h2 h12 → Q (some (iv (-1 : Int32))) h12) ∧ (¬ x3.toInt64 < (0 : Int64) → ((5 : Int64) < x3.toInt64 → ∀ h14 : ah_T, h14 = ah_wI h2 a0 0 (2 : Int32) → ah_ext h2 h14 → Q (some (iv (-1 : Int32))) h14) ∧ (¬ (5 : Int64) < x3.toInt64 → (x4.toInt64 < (0 : Int64) → ∀ h16 : ah_T, h16 = ah_wI h2 a0 0 (5 : Int32) → ah_ext h2 h16 → Q (some (iv (-1 : Int32))) h16) ∧ (¬ x4.toInt64 < (0 : Int64) → ((9 : Int64) < x4.toInt64 → ∀ h18 : ah_T, h18 = ah_wI h2 a0 0 (5 : Int32) → ah_ext h2 h18 → Q (some (iv (-1 : Int32))) h18) ∧ (¬ (9 : Int64) < x4.toInt64 → (x5.toInt64 < (1 : Int64) → ∀ h20 : ah_T, h20 = ah_wI h2 a0 0 (5 : Int32) → ah_ext h2 h20 → Q (some (iv (-1 : Int32))) h20) ∧ (¬ x5.toInt64 < (1 : Int64) → ((100000 : Int64) < x5.toInt64 → ∀ h22 : ah_T, h22 = ah_wI h2 a0 0 (5 : Int32) → ah_ext h2 h22 → Q (some (iv (-1 : Int32))) h22) ∧ (¬ (100000 : Int64) < x5.toInt64 → MX G mi_X8_event (d + 1) 0 [some (rv a0), some (iv (1 : Int32)), some (iv (-1 : Int32)), some (iv x1), some (iv x2), some (iv x3), some (iv x4), some (iv x5), some (iv (0 : Int32)), some (iv x6), some (iv x7)] [] h2 (Qi fun r24 h23 => ah_ext h2 h23 → Q (some (iv r24)) h23) E))))))))))) : MX G mi_X8_car (d + 2) 0 [some (rv a0), some (iv x1), some (iv x2), some (iv x3), some (iv x4), some (iv x5), some (iv x6), some (iv x7)] [] h Q E := by
  refine mx_aload_n dX8_car_0 rfl rfl ?_
  refine mx_iconst dX8_car_1 ic_0 ?_
  refine mx_putI 8 1 (ref := "PrairiePoolModel") cl_8 (Nat.le_of_ble_eq_true rfl) (Or.inl q1628) (Or.inl rfl) dX8_car_2 (Or.inl rfl) rfl (ly8_k La0_h) ?_
  refine mx_nmI  (fun h1 eh1 Xh1 Kh1 Lh1 => ?_)
  have H := H h1 eh1 Xh1
  have La0_h1 := La0_h.ext Xh1
  refine mx_aload_n dX8_car_5 rfl rfl ?_
  refine mx_iconst dX8_car_6 ic_0 ?_
  refine mx_putI 8 0 (ref := "PrairiePoolModel") cl_8 (Nat.le_of_ble_eq_true rfl) (Or.inl q1627) (Or.inl rfl) dX8_car_7 (Or.inl rfl) rfl (ly8_k La0_h1) ?_
  refine mx_nmI  (fun h2 eh2 Xh2 Kh2 Lh2 => ?_)
  have H := H h2 eh2 Xh2
  have Kh2 := Kh2.trans Kh1
  have Lh2 := Lh2.trans Lh1
  have La0_h2 := La0_h1.ext Xh2
  refine mx_aload_n dX8_car_10 rfl rfl ?_
  refine mx_iload_n dX8_car_11 rfl rfl ?_
  refine mx_callV 8 (y' := mi_X8_isElevator) (vs := [iv x1]) (st := []) (al' := [some (rv a0), some (iv x1)]) cl_8 V_X8_isElevator (Or.inl q2018) dX8_car_12 rfl rfl (Nat.le_of_ble_eq_true rfl) (Nat.le_of_ble_eq_true rfl) (ly8_k La0_h2) ?_
  refine mx_iload_n dX8_isElevator_0 rfl rfl ?_
  refine mx_i2l dX8_isElevator_1 ?_
  refine mx_lconst dX8_isElevator_2 lc_0 ?_
  refine mx_aload_n dX8_isElevator_3 rfl rfl ?_
  refine mx_get 8 6 (ref := "PrairiePoolModel") cl_8 (Nat.le_of_ble_eq_true rfl) (Or.inl q1633) (Or.inl rfl) dX8_isElevator_4 (fv_8_6 _ _) (ly8_k La0_h2) ?_
  refine mx_ti ((ah_skIK eh2 (by decide)).trans (ah_skIK eh1 (by decide))) ?_
  refine mx_iconst dX8_isElevator_7 ic_1 ?_
  refine mx_isub dX8_isElevator_8 ?_
  refine mx_i2l dX8_isElevator_9 ?_
  refine mx_callS (y' := mi_X8_isIn) (vs := [jv x1.toInt64, jv (0 : Int64), jv ((ah_I h a0 6) - (1 : Int32)).toInt64]) (st := []) (al' := [some (jv x1.toInt64), none, some (jv (0 : Int64)), none, some (jv ((ah_I h a0 6) - (1 : Int32)).toInt64), none]) S_X8_isIn q1996 dX8_isElevator_10 rfl rfl (Nat.le_of_ble_eq_true rfl) (Nat.le_of_ble_eq_true rfl) ?_
  refine mx_lload_n dX8_isIn_0 rfl rfl ?_
  refine mx_lload_n dX8_isIn_1 rfl rfl ?_
  refine mx_lif_lt (tgt := 17) dX8_isIn_2 dX8_isIn_3 rfl (fun c3 => ?_) (fun c3 => ?_)
  · have H := H.1 c3
    refine mx_iconst dX8_isIn_17 ic_0 ?_
    refine mx_zretK rfl dX8_isIn_18 (Or.inl rfl) ?_
    refine mx_zretK rfl dX8_isElevator_13 (Or.inl rfl) ?_
    refine mx_if_eq (tgt := 35) dX8_car_15 rfl (fun _ => ?_) (fun _ => absurd ‹_› (by decide))
    refine mx_aload_n dX8_car_35 rfl rfl ?_
    refine mx_iconst dX8_car_36 ic_2 ?_
    refine mx_callV 8 (y' := mi_X8_refuse) (vs := [iv (2 : Int32)]) (st := []) (al' := [some (rv a0), some (iv (2 : Int32))]) cl_8 V_X8_refuse (Or.inl q1999) dX8_car_37 rfl rfl (Nat.le_of_ble_eq_true rfl) (Nat.le_of_ble_eq_true rfl) (ly8_k La0_h2) ?_
    refine mx_aload_n dX8_refuse_0 rfl rfl ?_
    refine mx_iload_n dX8_refuse_1 rfl rfl ?_
    refine mx_putI 8 0 (ref := "PrairiePoolModel") cl_8 (Nat.le_of_ble_eq_true rfl) (Or.inl q1627) (Or.inl rfl) dX8_refuse_2 (Or.inl rfl) rfl (ly8_k La0_h2) ?_
    refine mx_nmI  (fun h4 eh4 Xh4 Kh4 Lh4 => ?_)
    have H := H h4 eh4 Xh4
    have Kh4 := Kh4.trans Kh2
    have Lh4 := Lh4.trans Lh2
    have La0_h4 := La0_h2.ext Xh4
    refine mx_iconst dX8_refuse_5 ic_m1 ?_
    refine mx_iretK rfl dX8_refuse_6 ?_
    exact mx_iret rfl dX8_car_40 H
  · have H := H.2 c3
    refine mx_lload_n dX8_isIn_6 rfl rfl ?_
    refine mx_lload dX8_isIn_7 rfl ?_
    refine mx_lif_gt (tgt := 17) dX8_isIn_9 dX8_isIn_10 rfl (fun c5 => ?_) (fun c5 => ?_)
    · have H := H.1 c5
      refine mx_iconst dX8_isIn_17 ic_0 ?_
      refine mx_zretK rfl dX8_isIn_18 (Or.inl rfl) ?_
      refine mx_zretK rfl dX8_isElevator_13 (Or.inl rfl) ?_
      refine mx_if_eq (tgt := 35) dX8_car_15 rfl (fun _ => ?_) (fun _ => absurd ‹_› (by decide))
      refine mx_aload_n dX8_car_35 rfl rfl ?_
      refine mx_iconst dX8_car_36 ic_2 ?_
      refine mx_callV 8 (y' := mi_X8_refuse) (vs := [iv (2 : Int32)]) (st := []) (al' := [some (rv a0), some (iv (2 : Int32))]) cl_8 V_X8_refuse (Or.inl q1999) dX8_car_37 rfl rfl (Nat.le_of_ble_eq_true rfl) (Nat.le_of_ble_eq_true rfl) (ly8_k La0_h2) ?_
      refine mx_aload_n dX8_refuse_0 rfl rfl ?_
      refine mx_iload_n dX8_refuse_1 rfl rfl ?_
      refine mx_putI 8 0 (ref := "PrairiePoolModel") cl_8 (Nat.le_of_ble_eq_true rfl) (Or.inl q1627) (Or.inl rfl) dX8_refuse_2 (Or.inl rfl) rfl (ly8_k La0_h2) ?_
      refine mx_nmI  (fun h6 eh6 Xh6 Kh6 Lh6 => ?_)
      have H := H h6 eh6 Xh6
      have Kh6 := Kh6.trans Kh2
      have Lh6 := Lh6.trans Lh2
      have La0_h6 := La0_h2.ext Xh6
      refine mx_iconst dX8_refuse_5 ic_m1 ?_
      refine mx_iretK rfl dX8_refuse_6 ?_
      exact mx_iret rfl dX8_car_40 H
    · have H := H.2 c5
      refine mx_iconst dX8_isIn_13 ic_1 ?_
      refine mx_goto (tgt := 18) dX8_isIn_14 rfl ?_
      refine mx_zretK rfl dX8_isIn_18 (Or.inr rfl) ?_
      refine mx_zretK rfl dX8_isElevator_13 (Or.inr rfl) ?_
      refine mx_if_eq (tgt := 35) dX8_car_15 rfl (fun _ => absurd ‹_› (by decide)) (fun _ => ?_)
      refine mx_iload_n dX8_car_18 rfl rfl ?_
      refine mx_i2l dX8_car_19 ?_
      refine mx_lconst dX8_car_20 lc_0 ?_
      refine mx_lconst dX8_car_21 lc_1 ?_
      refine mx_callS (y' := mi_X8_isIn) (vs := [jv x2.toInt64, jv (0 : Int64), jv (1 : Int64)]) (st := []) (al' := [some (jv x2.toInt64), none, some (jv (0 : Int64)), none, some (jv (1 : Int64)), none]) S_X8_isIn q1996 dX8_car_22 rfl rfl (Nat.le_of_ble_eq_true rfl) (Nat.le_of_ble_eq_true rfl) ?_
      refine mx_lload_n dX8_isIn_0 rfl rfl ?_
      refine mx_lload_n dX8_isIn_1 rfl rfl ?_
      refine mx_lif_lt (tgt := 17) dX8_isIn_2 dX8_isIn_3 rfl (fun c7 => ?_) (fun c7 => ?_)
      · have H := H.1 c7
        refine mx_iconst dX8_isIn_17 ic_0 ?_
        refine mx_zretK rfl dX8_isIn_18 (Or.inl rfl) ?_
        refine mx_if_eq (tgt := 35) dX8_car_25 rfl (fun _ => ?_) (fun _ => absurd ‹_› (by decide))
        refine mx_aload_n dX8_car_35 rfl rfl ?_
        refine mx_iconst dX8_car_36 ic_2 ?_
        refine mx_callV 8 (y' := mi_X8_refuse) (vs := [iv (2 : Int32)]) (st := []) (al' := [some (rv a0), some (iv (2 : Int32))]) cl_8 V_X8_refuse (Or.inl q1999) dX8_car_37 rfl rfl (Nat.le_of_ble_eq_true rfl) (Nat.le_of_ble_eq_true rfl) (ly8_k La0_h2) ?_
        refine mx_aload_n dX8_refuse_0 rfl rfl ?_
        refine mx_iload_n dX8_refuse_1 rfl rfl ?_
        refine mx_putI 8 0 (ref := "PrairiePoolModel") cl_8 (Nat.le_of_ble_eq_true rfl) (Or.inl q1627) (Or.inl rfl) dX8_refuse_2 (Or.inl rfl) rfl (ly8_k La0_h2) ?_
        refine mx_nmI  (fun h8 eh8 Xh8 Kh8 Lh8 => ?_)
        have H := H h8 eh8 Xh8
        have Kh8 := Kh8.trans Kh2
        have Lh8 := Lh8.trans Lh2
        have La0_h8 := La0_h2.ext Xh8
        refine mx_iconst dX8_refuse_5 ic_m1 ?_
        refine mx_iretK rfl dX8_refuse_6 ?_
        exact mx_iret rfl dX8_car_40 H
      · have H := H.2 c7
        refine mx_lload_n dX8_isIn_6 rfl rfl ?_
        refine mx_lload dX8_isIn_7 rfl ?_
        refine mx_lif_gt (tgt := 17) dX8_isIn_9 dX8_isIn_10 rfl (fun c9 => ?_) (fun c9 => ?_)
        · have H := H.1 c9
          refine mx_iconst dX8_isIn_17 ic_0 ?_
          refine mx_zretK rfl dX8_isIn_18 (Or.inl rfl) ?_
          refine mx_if_eq (tgt := 35) dX8_car_25 rfl (fun _ => ?_) (fun _ => absurd ‹_› (by decide))
          refine mx_aload_n dX8_car_35 rfl rfl ?_
          refine mx_iconst dX8_car_36 ic_2 ?_
          refine mx_callV 8 (y' := mi_X8_refuse) (vs := [iv (2 : Int32)]) (st := []) (al' := [some (rv a0), some (iv (2 : Int32))]) cl_8 V_X8_refuse (Or.inl q1999) dX8_car_37 rfl rfl (Nat.le_of_ble_eq_true rfl) (Nat.le_of_ble_eq_true rfl) (ly8_k La0_h2) ?_
          refine mx_aload_n dX8_refuse_0 rfl rfl ?_
          refine mx_iload_n dX8_refuse_1 rfl rfl ?_
          refine mx_putI 8 0 (ref := "PrairiePoolModel") cl_8 (Nat.le_of_ble_eq_true rfl) (Or.inl q1627) (Or.inl rfl) dX8_refuse_2 (Or.inl rfl) rfl (ly8_k La0_h2) ?_
          refine mx_nmI  (fun h10 eh10 Xh10 Kh10 Lh10 => ?_)
          have H := H h10 eh10 Xh10
          have Kh10 := Kh10.trans Kh2
          have Lh10 := Lh10.trans Lh2
          have La0_h10 := La0_h2.ext Xh10
          refine mx_iconst dX8_refuse_5 ic_m1 ?_
          refine mx_iretK rfl dX8_refuse_6 ?_
          exact mx_iret rfl dX8_car_40 H
        · have H := H.2 c9
          refine mx_iconst dX8_isIn_13 ic_1 ?_
          refine mx_goto (tgt := 18) dX8_isIn_14 rfl ?_
          refine mx_zretK rfl dX8_isIn_18 (Or.inr rfl) ?_
          refine mx_if_eq (tgt := 35) dX8_car_25 rfl (fun _ => absurd ‹_› (by decide)) (fun _ => ?_)
          refine mx_iload_n dX8_car_28 rfl rfl ?_
          refine mx_callS (y' := mi_X8_isGrade) (vs := [iv x3]) (st := []) (al' := [some (iv x3)]) S_X8_isGrade q2036 dX8_car_29 rfl rfl (Nat.le_of_ble_eq_true rfl) (Nat.le_of_ble_eq_true rfl) ?_
          refine mx_iload_n dX8_isGrade_0 rfl rfl ?_
          refine mx_i2l dX8_isGrade_1 ?_
          refine mx_lconst dX8_isGrade_2 lc_0 ?_
          refine mx_ldc2 q1995 dX8_isGrade_3 ?_
          refine mx_callS (y' := mi_X8_isIn) (vs := [jv x3.toInt64, jv (0 : Int64), jv (5 : Int64)]) (st := []) (al' := [some (jv x3.toInt64), none, some (jv (0 : Int64)), none, some (jv (5 : Int64)), none]) S_X8_isIn q1996 dX8_isGrade_6 rfl rfl (Nat.le_of_ble_eq_true rfl) (Nat.le_of_ble_eq_true rfl) ?_
          refine mx_lload_n dX8_isIn_0 rfl rfl ?_
          refine mx_lload_n dX8_isIn_1 rfl rfl ?_
          refine mx_lif_lt (tgt := 17) dX8_isIn_2 dX8_isIn_3 rfl (fun c11 => ?_) (fun c11 => ?_)
          · have H := H.1 c11
            refine mx_iconst dX8_isIn_17 ic_0 ?_
            refine mx_zretK rfl dX8_isIn_18 (Or.inl rfl) ?_
            refine mx_zretK rfl dX8_isGrade_9 (Or.inl rfl) ?_
            refine mx_if_ne (tgt := 41) dX8_car_32 rfl (fun _ => absurd ‹_› (by decide)) (fun _ => ?_)
            refine mx_aload_n dX8_car_35 rfl rfl ?_
            refine mx_iconst dX8_car_36 ic_2 ?_
            refine mx_callV 8 (y' := mi_X8_refuse) (vs := [iv (2 : Int32)]) (st := []) (al' := [some (rv a0), some (iv (2 : Int32))]) cl_8 V_X8_refuse (Or.inl q1999) dX8_car_37 rfl rfl (Nat.le_of_ble_eq_true rfl) (Nat.le_of_ble_eq_true rfl) (ly8_k La0_h2) ?_
            refine mx_aload_n dX8_refuse_0 rfl rfl ?_
            refine mx_iload_n dX8_refuse_1 rfl rfl ?_
            refine mx_putI 8 0 (ref := "PrairiePoolModel") cl_8 (Nat.le_of_ble_eq_true rfl) (Or.inl q1627) (Or.inl rfl) dX8_refuse_2 (Or.inl rfl) rfl (ly8_k La0_h2) ?_
            refine mx_nmI  (fun h12 eh12 Xh12 Kh12 Lh12 => ?_)
            have H := H h12 eh12 Xh12
            have Kh12 := Kh12.trans Kh2
            have Lh12 := Lh12.trans Lh2
            have La0_h12 := La0_h2.ext Xh12
            refine mx_iconst dX8_refuse_5 ic_m1 ?_
            refine mx_iretK rfl dX8_refuse_6 ?_
            exact mx_iret rfl dX8_car_40 H
          · have H := H.2 c11
            refine mx_lload_n dX8_isIn_6 rfl rfl ?_
            refine mx_lload dX8_isIn_7 rfl ?_
            refine mx_lif_gt (tgt := 17) dX8_isIn_9 dX8_isIn_10 rfl (fun c13 => ?_) (fun c13 => ?_)
            · have H := H.1 c13
              refine mx_iconst dX8_isIn_17 ic_0 ?_
              refine mx_zretK rfl dX8_isIn_18 (Or.inl rfl) ?_
              refine mx_zretK rfl dX8_isGrade_9 (Or.inl rfl) ?_
              refine mx_if_ne (tgt := 41) dX8_car_32 rfl (fun _ => absurd ‹_› (by decide)) (fun _ => ?_)
              refine mx_aload_n dX8_car_35 rfl rfl ?_
              refine mx_iconst dX8_car_36 ic_2 ?_
              refine mx_callV 8 (y' := mi_X8_refuse) (vs := [iv (2 : Int32)]) (st := []) (al' := [some (rv a0), some (iv (2 : Int32))]) cl_8 V_X8_refuse (Or.inl q1999) dX8_car_37 rfl rfl (Nat.le_of_ble_eq_true rfl) (Nat.le_of_ble_eq_true rfl) (ly8_k La0_h2) ?_
              refine mx_aload_n dX8_refuse_0 rfl rfl ?_
              refine mx_iload_n dX8_refuse_1 rfl rfl ?_
              refine mx_putI 8 0 (ref := "PrairiePoolModel") cl_8 (Nat.le_of_ble_eq_true rfl) (Or.inl q1627) (Or.inl rfl) dX8_refuse_2 (Or.inl rfl) rfl (ly8_k La0_h2) ?_
              refine mx_nmI  (fun h14 eh14 Xh14 Kh14 Lh14 => ?_)
              have H := H h14 eh14 Xh14
              have Kh14 := Kh14.trans Kh2
              have Lh14 := Lh14.trans Lh2
              have La0_h14 := La0_h2.ext Xh14
              refine mx_iconst dX8_refuse_5 ic_m1 ?_
              refine mx_iretK rfl dX8_refuse_6 ?_
              exact mx_iret rfl dX8_car_40 H
            · have H := H.2 c13
              refine mx_iconst dX8_isIn_13 ic_1 ?_
              refine mx_goto (tgt := 18) dX8_isIn_14 rfl ?_
              refine mx_zretK rfl dX8_isIn_18 (Or.inr rfl) ?_
              refine mx_zretK rfl dX8_isGrade_9 (Or.inr rfl) ?_
              refine mx_if_ne (tgt := 41) dX8_car_32 rfl (fun _ => ?_) (fun _ => absurd ‹_› (by decide))
              refine mx_iload dX8_car_41 rfl ?_
              refine mx_callS (y' := mi_X8_isYear) (vs := [iv x4]) (st := []) (al' := [some (iv x4)]) S_X8_isYear q2039 dX8_car_43 rfl rfl (Nat.le_of_ble_eq_true rfl) (Nat.le_of_ble_eq_true rfl) ?_
              refine mx_iload_n dX8_isYear_0 rfl rfl ?_
              refine mx_i2l dX8_isYear_1 ?_
              refine mx_lconst dX8_isYear_2 lc_0 ?_
              refine mx_ldc2 q2042 dX8_isYear_3 ?_
              refine mx_callS (y' := mi_X8_isIn) (vs := [jv x4.toInt64, jv (0 : Int64), jv (9 : Int64)]) (st := []) (al' := [some (jv x4.toInt64), none, some (jv (0 : Int64)), none, some (jv (9 : Int64)), none]) S_X8_isIn q1996 dX8_isYear_6 rfl rfl (Nat.le_of_ble_eq_true rfl) (Nat.le_of_ble_eq_true rfl) ?_
              refine mx_lload_n dX8_isIn_0 rfl rfl ?_
              refine mx_lload_n dX8_isIn_1 rfl rfl ?_
              refine mx_lif_lt (tgt := 17) dX8_isIn_2 dX8_isIn_3 rfl (fun c15 => ?_) (fun c15 => ?_)
              · have H := H.1 c15
                refine mx_iconst dX8_isIn_17 ic_0 ?_
                refine mx_zretK rfl dX8_isIn_18 (Or.inl rfl) ?_
                refine mx_zretK rfl dX8_isYear_9 (Or.inl rfl) ?_
                refine mx_if_eq (tgt := 62) dX8_car_46 rfl (fun _ => ?_) (fun _ => absurd ‹_› (by decide))
                refine mx_aload_n dX8_car_62 rfl rfl ?_
                refine mx_iconst dX8_car_63 ic_5 ?_
                refine mx_callV 8 (y' := mi_X8_refuse) (vs := [iv (5 : Int32)]) (st := []) (al' := [some (rv a0), some (iv (5 : Int32))]) cl_8 V_X8_refuse (Or.inl q1999) dX8_car_64 rfl rfl (Nat.le_of_ble_eq_true rfl) (Nat.le_of_ble_eq_true rfl) (ly8_k La0_h2) ?_
                refine mx_aload_n dX8_refuse_0 rfl rfl ?_
                refine mx_iload_n dX8_refuse_1 rfl rfl ?_
                refine mx_putI 8 0 (ref := "PrairiePoolModel") cl_8 (Nat.le_of_ble_eq_true rfl) (Or.inl q1627) (Or.inl rfl) dX8_refuse_2 (Or.inl rfl) rfl (ly8_k La0_h2) ?_
                refine mx_nmI  (fun h16 eh16 Xh16 Kh16 Lh16 => ?_)
                have H := H h16 eh16 Xh16
                have Kh16 := Kh16.trans Kh2
                have Lh16 := Lh16.trans Lh2
                have La0_h16 := La0_h2.ext Xh16
                refine mx_iconst dX8_refuse_5 ic_m1 ?_
                refine mx_iretK rfl dX8_refuse_6 ?_
                exact mx_iret rfl dX8_car_67 H
              · have H := H.2 c15
                refine mx_lload_n dX8_isIn_6 rfl rfl ?_
                refine mx_lload dX8_isIn_7 rfl ?_
                refine mx_lif_gt (tgt := 17) dX8_isIn_9 dX8_isIn_10 rfl (fun c17 => ?_) (fun c17 => ?_)
                · have H := H.1 c17
                  refine mx_iconst dX8_isIn_17 ic_0 ?_
                  refine mx_zretK rfl dX8_isIn_18 (Or.inl rfl) ?_
                  refine mx_zretK rfl dX8_isYear_9 (Or.inl rfl) ?_
                  refine mx_if_eq (tgt := 62) dX8_car_46 rfl (fun _ => ?_) (fun _ => absurd ‹_› (by decide))
                  refine mx_aload_n dX8_car_62 rfl rfl ?_
                  refine mx_iconst dX8_car_63 ic_5 ?_
                  refine mx_callV 8 (y' := mi_X8_refuse) (vs := [iv (5 : Int32)]) (st := []) (al' := [some (rv a0), some (iv (5 : Int32))]) cl_8 V_X8_refuse (Or.inl q1999) dX8_car_64 rfl rfl (Nat.le_of_ble_eq_true rfl) (Nat.le_of_ble_eq_true rfl) (ly8_k La0_h2) ?_
                  refine mx_aload_n dX8_refuse_0 rfl rfl ?_
                  refine mx_iload_n dX8_refuse_1 rfl rfl ?_
                  refine mx_putI 8 0 (ref := "PrairiePoolModel") cl_8 (Nat.le_of_ble_eq_true rfl) (Or.inl q1627) (Or.inl rfl) dX8_refuse_2 (Or.inl rfl) rfl (ly8_k La0_h2) ?_
                  refine mx_nmI  (fun h18 eh18 Xh18 Kh18 Lh18 => ?_)
                  have H := H h18 eh18 Xh18
                  have Kh18 := Kh18.trans Kh2
                  have Lh18 := Lh18.trans Lh2
                  have La0_h18 := La0_h2.ext Xh18
                  refine mx_iconst dX8_refuse_5 ic_m1 ?_
                  refine mx_iretK rfl dX8_refuse_6 ?_
                  exact mx_iret rfl dX8_car_67 H
                · have H := H.2 c17
                  refine mx_iconst dX8_isIn_13 ic_1 ?_
                  refine mx_goto (tgt := 18) dX8_isIn_14 rfl ?_
                  refine mx_zretK rfl dX8_isIn_18 (Or.inr rfl) ?_
                  refine mx_zretK rfl dX8_isYear_9 (Or.inr rfl) ?_
                  refine mx_if_eq (tgt := 62) dX8_car_46 rfl (fun _ => absurd ‹_› (by decide)) (fun _ => ?_)
                  refine mx_iload dX8_car_49 rfl ?_
                  refine mx_i2l dX8_car_51 ?_
                  refine mx_lconst dX8_car_52 lc_1 ?_
                  refine mx_ldc2 q2004 dX8_car_53 ?_
                  refine mx_callS (y' := mi_X8_isIn) (vs := [jv x5.toInt64, jv (1 : Int64), jv (100000 : Int64)]) (st := []) (al' := [some (jv x5.toInt64), none, some (jv (1 : Int64)), none, some (jv (100000 : Int64)), none]) S_X8_isIn q1996 dX8_car_56 rfl rfl (Nat.le_of_ble_eq_true rfl) (Nat.le_of_ble_eq_true rfl) ?_
                  refine mx_lload_n dX8_isIn_0 rfl rfl ?_
                  refine mx_lload_n dX8_isIn_1 rfl rfl ?_
                  refine mx_lif_lt (tgt := 17) dX8_isIn_2 dX8_isIn_3 rfl (fun c19 => ?_) (fun c19 => ?_)
                  · have H := H.1 c19
                    refine mx_iconst dX8_isIn_17 ic_0 ?_
                    refine mx_zretK rfl dX8_isIn_18 (Or.inl rfl) ?_
                    refine mx_if_ne (tgt := 68) dX8_car_59 rfl (fun _ => absurd ‹_› (by decide)) (fun _ => ?_)
                    refine mx_aload_n dX8_car_62 rfl rfl ?_
                    refine mx_iconst dX8_car_63 ic_5 ?_
                    refine mx_callV 8 (y' := mi_X8_refuse) (vs := [iv (5 : Int32)]) (st := []) (al' := [some (rv a0), some (iv (5 : Int32))]) cl_8 V_X8_refuse (Or.inl q1999) dX8_car_64 rfl rfl (Nat.le_of_ble_eq_true rfl) (Nat.le_of_ble_eq_true rfl) (ly8_k La0_h2) ?_
                    refine mx_aload_n dX8_refuse_0 rfl rfl ?_
                    refine mx_iload_n dX8_refuse_1 rfl rfl ?_
                    refine mx_putI 8 0 (ref := "PrairiePoolModel") cl_8 (Nat.le_of_ble_eq_true rfl) (Or.inl q1627) (Or.inl rfl) dX8_refuse_2 (Or.inl rfl) rfl (ly8_k La0_h2) ?_
                    refine mx_nmI  (fun h20 eh20 Xh20 Kh20 Lh20 => ?_)
                    have H := H h20 eh20 Xh20
                    have Kh20 := Kh20.trans Kh2
                    have Lh20 := Lh20.trans Lh2
                    have La0_h20 := La0_h2.ext Xh20
                    refine mx_iconst dX8_refuse_5 ic_m1 ?_
                    refine mx_iretK rfl dX8_refuse_6 ?_
                    exact mx_iret rfl dX8_car_67 H
                  · have H := H.2 c19
                    refine mx_lload_n dX8_isIn_6 rfl rfl ?_
                    refine mx_lload dX8_isIn_7 rfl ?_
                    refine mx_lif_gt (tgt := 17) dX8_isIn_9 dX8_isIn_10 rfl (fun c21 => ?_) (fun c21 => ?_)
                    · have H := H.1 c21
                      refine mx_iconst dX8_isIn_17 ic_0 ?_
                      refine mx_zretK rfl dX8_isIn_18 (Or.inl rfl) ?_
                      refine mx_if_ne (tgt := 68) dX8_car_59 rfl (fun _ => absurd ‹_› (by decide)) (fun _ => ?_)
                      refine mx_aload_n dX8_car_62 rfl rfl ?_
                      refine mx_iconst dX8_car_63 ic_5 ?_
                      refine mx_callV 8 (y' := mi_X8_refuse) (vs := [iv (5 : Int32)]) (st := []) (al' := [some (rv a0), some (iv (5 : Int32))]) cl_8 V_X8_refuse (Or.inl q1999) dX8_car_64 rfl rfl (Nat.le_of_ble_eq_true rfl) (Nat.le_of_ble_eq_true rfl) (ly8_k La0_h2) ?_
                      refine mx_aload_n dX8_refuse_0 rfl rfl ?_
                      refine mx_iload_n dX8_refuse_1 rfl rfl ?_
                      refine mx_putI 8 0 (ref := "PrairiePoolModel") cl_8 (Nat.le_of_ble_eq_true rfl) (Or.inl q1627) (Or.inl rfl) dX8_refuse_2 (Or.inl rfl) rfl (ly8_k La0_h2) ?_
                      refine mx_nmI  (fun h22 eh22 Xh22 Kh22 Lh22 => ?_)
                      have H := H h22 eh22 Xh22
                      have Kh22 := Kh22.trans Kh2
                      have Lh22 := Lh22.trans Lh2
                      have La0_h22 := La0_h2.ext Xh22
                      refine mx_iconst dX8_refuse_5 ic_m1 ?_
                      refine mx_iretK rfl dX8_refuse_6 ?_
                      exact mx_iret rfl dX8_car_67 H
                    · have H := H.2 c21
                      refine mx_iconst dX8_isIn_13 ic_1 ?_
                      refine mx_goto (tgt := 18) dX8_isIn_14 rfl ?_
                      refine mx_zretK rfl dX8_isIn_18 (Or.inr rfl) ?_
                      refine mx_if_ne (tgt := 68) dX8_car_59 rfl (fun _ => ?_) (fun _ => absurd ‹_› (by decide))
                      refine mx_aload_n dX8_car_68 rfl rfl ?_
                      refine mx_iconst dX8_car_69 ic_1 ?_
                      refine mx_iconst dX8_car_70 ic_m1 ?_
                      refine mx_iload_n dX8_car_71 rfl rfl ?_
                      refine mx_iload_n dX8_car_72 rfl rfl ?_
                      refine mx_iload_n dX8_car_73 rfl rfl ?_
                      refine mx_iload dX8_car_74 rfl ?_
                      refine mx_iload dX8_car_76 rfl ?_
                      refine mx_iconst dX8_car_78 ic_0 ?_
                      refine mx_iload dX8_car_79 rfl ?_
                      refine mx_iload dX8_car_81 rfl ?_
                      refine mx_callV 8 (y' := mi_X8_event) (vs := [iv (1 : Int32), iv (-1 : Int32), iv x1, iv x2, iv x3, iv x4, iv x5, iv (0 : Int32), iv x6, iv x7]) (st := []) (al' := [some (rv a0), some (iv (1 : Int32)), some (iv (-1 : Int32)), some (iv x1), some (iv x2), some (iv x3), some (iv x4), some (iv x5), some (iv (0 : Int32)), some (iv x6), some (iv x7)]) cl_8 V_X8_event (Or.inl q2024) dX8_car_83 rfl rfl (Nat.le_of_ble_eq_true rfl) (Nat.le_of_ble_eq_true rfl) (ly8_k La0_h2) ?_
                      refine ma_ki H (fun r24 h23 Xh23 H => ?_) (fun x1 h1 X1 H => mt_out rfl H)
                      have H := H Xh23
                      have La0_h23 := La0_h2.ext Xh23
                      exact mx_iret rfl dX8_car_86 H
theorem v_X8_isGrade {G : ma_G} {d : Nat} {x0 : Int32} {h : ah_T} {Q : Option ma_V → ah_T → Prop} {E : Nat → ah_T → Prop}  (H : (x0.toInt64 < (0 : Int64) → Q (some (iv (0 : Int32))) h) ∧ (¬ x0.toInt64 < (0 : Int64) → ((5 : Int64) < x0.toInt64 → Q (some (iv (0 : Int32))) h) ∧ (¬ (5 : Int64) < x0.toInt64 → Q (some (iv (1 : Int32))) h))) : MX G mi_X8_isGrade (d + 1) 0 [some (iv x0)] [] h Q E := by
  refine mx_iload_n dX8_isGrade_0 rfl rfl ?_
  refine mx_i2l dX8_isGrade_1 ?_
  refine mx_lconst dX8_isGrade_2 lc_0 ?_
  refine mx_ldc2 q1995 dX8_isGrade_3 ?_
  refine mx_callS (y' := mi_X8_isIn) (vs := [jv x0.toInt64, jv (0 : Int64), jv (5 : Int64)]) (st := []) (al' := [some (jv x0.toInt64), none, some (jv (0 : Int64)), none, some (jv (5 : Int64)), none]) S_X8_isIn q1996 dX8_isGrade_6 rfl rfl (Nat.le_of_ble_eq_true rfl) (Nat.le_of_ble_eq_true rfl) ?_
  refine mx_lload_n dX8_isIn_0 rfl rfl ?_
  refine mx_lload_n dX8_isIn_1 rfl rfl ?_
  refine mx_lif_lt (tgt := 17) dX8_isIn_2 dX8_isIn_3 rfl (fun c1 => ?_) (fun c1 => ?_)
  · have H := H.1 c1
    refine mx_iconst dX8_isIn_17 ic_0 ?_
    refine mx_zretK rfl dX8_isIn_18 (Or.inl rfl) ?_
    exact mx_zret rfl dX8_isGrade_9 (Or.inl rfl) H
  · have H := H.2 c1
    refine mx_lload_n dX8_isIn_6 rfl rfl ?_
    refine mx_lload dX8_isIn_7 rfl ?_
    refine mx_lif_gt (tgt := 17) dX8_isIn_9 dX8_isIn_10 rfl (fun c2 => ?_) (fun c2 => ?_)
    · have H := H.1 c2
      refine mx_iconst dX8_isIn_17 ic_0 ?_
      refine mx_zretK rfl dX8_isIn_18 (Or.inl rfl) ?_
      exact mx_zret rfl dX8_isGrade_9 (Or.inl rfl) H
    · have H := H.2 c2
      refine mx_iconst dX8_isIn_13 ic_1 ?_
      refine mx_goto (tgt := 18) dX8_isIn_14 rfl ?_
      refine mx_zretK rfl dX8_isIn_18 (Or.inr rfl) ?_
      exact mx_zret rfl dX8_isGrade_9 (Or.inr rfl) H
theorem v_X8_isYear {G : ma_G} {d : Nat} {x0 : Int32} {h : ah_T} {Q : Option ma_V → ah_T → Prop} {E : Nat → ah_T → Prop}  (H : (x0.toInt64 < (0 : Int64) → Q (some (iv (0 : Int32))) h) ∧ (¬ x0.toInt64 < (0 : Int64) → ((9 : Int64) < x0.toInt64 → Q (some (iv (0 : Int32))) h) ∧ (¬ (9 : Int64) < x0.toInt64 → Q (some (iv (1 : Int32))) h))) : MX G mi_X8_isYear (d + 1) 0 [some (iv x0)] [] h Q E := by
  refine mx_iload_n dX8_isYear_0 rfl rfl ?_
  refine mx_i2l dX8_isYear_1 ?_
  refine mx_lconst dX8_isYear_2 lc_0 ?_
  refine mx_ldc2 q2042 dX8_isYear_3 ?_
  refine mx_callS (y' := mi_X8_isIn) (vs := [jv x0.toInt64, jv (0 : Int64), jv (9 : Int64)]) (st := []) (al' := [some (jv x0.toInt64), none, some (jv (0 : Int64)), none, some (jv (9 : Int64)), none]) S_X8_isIn q1996 dX8_isYear_6 rfl rfl (Nat.le_of_ble_eq_true rfl) (Nat.le_of_ble_eq_true rfl) ?_
  refine mx_lload_n dX8_isIn_0 rfl rfl ?_
  refine mx_lload_n dX8_isIn_1 rfl rfl ?_
  refine mx_lif_lt (tgt := 17) dX8_isIn_2 dX8_isIn_3 rfl (fun c1 => ?_) (fun c1 => ?_)
  · have H := H.1 c1
    refine mx_iconst dX8_isIn_17 ic_0 ?_
    refine mx_zretK rfl dX8_isIn_18 (Or.inl rfl) ?_
    exact mx_zret rfl dX8_isYear_9 (Or.inl rfl) H
  · have H := H.2 c1
    refine mx_lload_n dX8_isIn_6 rfl rfl ?_
    refine mx_lload dX8_isIn_7 rfl ?_
    refine mx_lif_gt (tgt := 17) dX8_isIn_9 dX8_isIn_10 rfl (fun c2 => ?_) (fun c2 => ?_)
    · have H := H.1 c2
      refine mx_iconst dX8_isIn_17 ic_0 ?_
      refine mx_zretK rfl dX8_isIn_18 (Or.inl rfl) ?_
      exact mx_zret rfl dX8_isYear_9 (Or.inl rfl) H
    · have H := H.2 c2
      refine mx_iconst dX8_isIn_13 ic_1 ?_
      refine mx_goto (tgt := 18) dX8_isIn_14 rfl ?_
      refine mx_zretK rfl dX8_isIn_18 (Or.inr rfl) ?_
      exact mx_zret rfl dX8_isYear_9 (Or.inr rfl) H
theorem dX8_sale_0 : decode mi_X8_sale.2.1 0 = .ok (.aload_n 0, 1) := by decide +kernel
theorem dX8_sale_1 : decode mi_X8_sale.2.1 1 = .ok (.iconst 0, 1) := by decide +kernel
theorem dX8_sale_2 : decode mi_X8_sale.2.1 2 = .ok (.putfield 257, 3) := by decide +kernel
theorem dX8_sale_5 : decode mi_X8_sale.2.1 5 = .ok (.aload_n 0, 1) := by decide +kernel
theorem dX8_sale_6 : decode mi_X8_sale.2.1 6 = .ok (.iconst 0, 1) := by decide +kernel
theorem dX8_sale_7 : decode mi_X8_sale.2.1 7 = .ok (.putfield 260, 3) := by decide +kernel
theorem dX8_sale_10 : decode mi_X8_sale.2.1 10 = .ok (.iload_n 1, 1) := by decide +kernel
theorem dX8_sale_11 : decode mi_X8_sale.2.1 11 = .ok (.i2l, 1) := by decide +kernel
theorem dX8_sale_12 : decode mi_X8_sale.2.1 12 = .ok (.lconst 0, 1) := by decide +kernel
theorem dX8_sale_13 : decode mi_X8_sale.2.1 13 = .ok (.lconst 1, 1) := by decide +kernel
theorem dX8_sale_14 : decode mi_X8_sale.2.1 14 = .ok (.invokestatic 265, 3) := by decide +kernel
theorem dX8_sale_17 : decode mi_X8_sale.2.1 17 = .ok (.ifCond .eq 10, 3) := by decide +kernel
theorem dX8_sale_20 : decode mi_X8_sale.2.1 20 = .ok (.iload_n 2, 1) := by decide +kernel
theorem dX8_sale_21 : decode mi_X8_sale.2.1 21 = .ok (.invokestatic 332, 3) := by decide +kernel
theorem dX8_sale_24 : decode mi_X8_sale.2.1 24 = .ok (.ifCond .ne 9, 3) := by decide +kernel
theorem dX8_sale_27 : decode mi_X8_sale.2.1 27 = .ok (.aload_n 0, 1) := by decide +kernel
theorem dX8_sale_28 : decode mi_X8_sale.2.1 28 = .ok (.iconst 2, 1) := by decide +kernel
theorem dX8_sale_29 : decode mi_X8_sale.2.1 29 = .ok (.invokevirtual 297, 3) := by decide +kernel
theorem dX8_sale_32 : decode mi_X8_sale.2.1 32 = .ok (.ireturn, 1) := by decide +kernel
theorem dX8_sale_33 : decode mi_X8_sale.2.1 33 = .ok (.iload_n 3, 1) := by decide +kernel
theorem dX8_sale_34 : decode mi_X8_sale.2.1 34 = .ok (.invokestatic 335, 3) := by decide +kernel
theorem dX8_sale_37 : decode mi_X8_sale.2.1 37 = .ok (.ifCond .eq 29, 3) := by decide +kernel
theorem dX8_sale_40 : decode mi_X8_sale.2.1 40 = .ok (.iload 4, 2) := by decide +kernel
theorem dX8_sale_42 : decode mi_X8_sale.2.1 42 = .ok (.i2l, 1) := by decide +kernel
theorem dX8_sale_43 : decode mi_X8_sale.2.1 43 = .ok (.lconst 1, 1) := by decide +kernel
theorem dX8_sale_44 : decode mi_X8_sale.2.1 44 = .ok (.ldc2_w 302, 3) := by decide +kernel
theorem dX8_sale_47 : decode mi_X8_sale.2.1 47 = .ok (.invokestatic 265, 3) := by decide +kernel
theorem dX8_sale_50 : decode mi_X8_sale.2.1 50 = .ok (.ifCond .eq 16, 3) := by decide +kernel
theorem dX8_sale_53 : decode mi_X8_sale.2.1 53 = .ok (.iload 5, 2) := by decide +kernel
theorem dX8_sale_55 : decode mi_X8_sale.2.1 55 = .ok (.i2l, 1) := by decide +kernel
theorem dX8_sale_56 : decode mi_X8_sale.2.1 56 = .ok (.lconst 0, 1) := by decide +kernel
theorem dX8_sale_57 : decode mi_X8_sale.2.1 57 = .ok (.ldc2_w 326, 3) := by decide +kernel
theorem dX8_sale_60 : decode mi_X8_sale.2.1 60 = .ok (.invokestatic 265, 3) := by decide +kernel
theorem dX8_sale_63 : decode mi_X8_sale.2.1 63 = .ok (.ifCond .ne 9, 3) := by decide +kernel
theorem dX8_sale_66 : decode mi_X8_sale.2.1 66 = .ok (.aload_n 0, 1) := by decide +kernel
theorem dX8_sale_67 : decode mi_X8_sale.2.1 67 = .ok (.iconst 5, 1) := by decide +kernel
theorem dX8_sale_68 : decode mi_X8_sale.2.1 68 = .ok (.invokevirtual 297, 3) := by decide +kernel
theorem dX8_sale_71 : decode mi_X8_sale.2.1 71 = .ok (.ireturn, 1) := by decide +kernel
theorem dX8_sale_72 : decode mi_X8_sale.2.1 72 = .ok (.aload_n 0, 1) := by decide +kernel
theorem dX8_sale_73 : decode mi_X8_sale.2.1 73 = .ok (.iconst 2, 1) := by decide +kernel
theorem dX8_sale_74 : decode mi_X8_sale.2.1 74 = .ok (.iconst (-1), 1) := by decide +kernel
theorem dX8_sale_75 : decode mi_X8_sale.2.1 75 = .ok (.iload_n 1, 1) := by decide +kernel
theorem dX8_sale_76 : decode mi_X8_sale.2.1 76 = .ok (.iconst (-1), 1) := by decide +kernel
theorem dX8_sale_77 : decode mi_X8_sale.2.1 77 = .ok (.iload_n 2, 1) := by decide +kernel
theorem dX8_sale_78 : decode mi_X8_sale.2.1 78 = .ok (.iload_n 3, 1) := by decide +kernel
theorem dX8_sale_79 : decode mi_X8_sale.2.1 79 = .ok (.iload 4, 2) := by decide +kernel
theorem dX8_sale_81 : decode mi_X8_sale.2.1 81 = .ok (.iload 5, 2) := by decide +kernel
theorem dX8_sale_83 : decode mi_X8_sale.2.1 83 = .ok (.iload 6, 2) := by decide +kernel
theorem dX8_sale_85 : decode mi_X8_sale.2.1 85 = .ok (.iload 7, 2) := by decide +kernel
theorem dX8_sale_87 : decode mi_X8_sale.2.1 87 = .ok (.invokevirtual 328, 3) := by decide +kernel
theorem dX8_sale_90 : decode mi_X8_sale.2.1 90 = .ok (.ireturn, 1) := by decide +kernel
theorem v_X8_sale {G : ma_G} {d : Nat} {a0 : Nat} {x1 : Int32} {x2 : Int32} {x3 : Int32} {x4 : Int32} {x5 : Int32} {x6 : Int32} {x7 : Int32} {h : ah_T} {Q : Option ma_V → ah_T → Prop} {E : Nat → ah_T → Prop} (La0_h : LY8 h a0) (H : ∀ h1 : ah_T, h1 = ah_wI h a0 1 (0 : Int32) → ah_ext h h1 → ∀ h2 : ah_T, h2 = ah_wI h1 a0 0 (0 : Int32) → ah_ext h1 h2 → (x1.toInt64 < (0 : Int64) → ∀ h4 : ah_T, h4 = ah_wI h2 a0 0 (2 : Int32) → ah_ext h2 h4 → Q (some (iv (-1 : Int32))) h4) ∧ (¬ x1.toInt64 < (0 : Int64) → ((1 : Int64) < x1.toInt64 → ∀ h6 : ah_T, h6 = ah_wI h2 a0 0 (2 : Int32) → ah_ext h2 h6 → Q (some (iv (-1 : Int32))) h6) ∧ (¬ (1 : Int64) < x1.toInt64 → (x2.toInt64 < (0 : Int64) → ∀ h8 : ah_T, h8 = ah_wI h2 a0 0 (2 : Int32) → ah_ext h2 h8 → Q (some (iv (-1 : Int32))) h8) ∧ (¬ x2.toInt64 < (0 : Int64) → ((5 : Int64) < x2.toInt64 → ∀ h10 : ah_T, h10 = ah_wI h2 a0 0 (2 : Int32) → ah_ext h2 h10 → Q (some (iv (-1 : Int32))) h10) ∧ (¬ (5 : Int64) < x2.toInt64 → (x3.toInt64 < (0 : Int64) → ∀ h12 : ah_T, h12 = ah_wI h2 a0 0 (5 : Int32) → ah_ext h2 h12 → Q (some (iv (-1 : Int32))) h12) ∧ (¬ x3.toInt64 < (0 : Int64) → ((9 : Int64) < x3.toInt64 → ∀ h14 : ah_T, h14 = ah_wI h2 a0 0 (5 : Int32) → ah_ext h2 h14 → Q (some (iv (-1 : Int32))) h14) ∧ (¬ (9 : Int64) < x3.toInt64 → (x4.toInt64 < (1 : Int64) → ∀ h16 : ah_T, h16 = ah_wI h2 a0 0 (5 : Int32) → ah_ext h2 h16 → Q (some (iv (-1 : Int32))) h16) ∧ (¬ x4.toInt64 < (1 : Int64) → ((100000 : Int64) < x4.toInt64 → ∀ h18 : ah_T, h18 = ah_wI h2 a0 0 (5 : Int32) → ah_ext h2 h18 → Q (some (iv (-1 : Int32))) h18) ∧ (¬ (100000 : Int64) < x4.toInt64 → (x5.toInt64 < (0 : Int64) → ∀ h20 : ah_T, h20 = ah_wI h2 a0 0 (5 : Int32) → ah_ext h2 h20 → Q (some (iv (-1 : Int32))) h20) ∧ (¬ x5.toInt64 < (0 : Int64) → ((1000 : Int64) < x5.toInt64 → ∀ h22 : ah_T, h22 = ah_wI h2 a0 0 (5 : Int32) → ah_ext h2 h22 → Q (some (iv (-1 : Int32))) h22) ∧ (¬ (1000 : Int64) < x5.toInt64 → MX G mi_X8_event (d + 1) 0 [some (rv a0), some (iv (2 : Int32)), some (iv (-1 : Int32)), some (iv x1), some (iv (-1 : Int32)), some (iv x2), some (iv x3), some (iv x4), some (iv x5), some (iv x6), some (iv x7)] [] h2 (Qi fun r24 h23 => ah_ext h2 h23 → Q (some (iv r24)) h23) E))))))))))) : MX G mi_X8_sale (d + 2) 0 [some (rv a0), some (iv x1), some (iv x2), some (iv x3), some (iv x4), some (iv x5), some (iv x6), some (iv x7)] [] h Q E := by
  refine mx_aload_n dX8_sale_0 rfl rfl ?_
  refine mx_iconst dX8_sale_1 ic_0 ?_
  refine mx_putI 8 1 (ref := "PrairiePoolModel") cl_8 (Nat.le_of_ble_eq_true rfl) (Or.inl q1628) (Or.inl rfl) dX8_sale_2 (Or.inl rfl) rfl (ly8_k La0_h) ?_
  refine mx_nmI  (fun h1 eh1 Xh1 Kh1 Lh1 => ?_)
  have H := H h1 eh1 Xh1
  have La0_h1 := La0_h.ext Xh1
  refine mx_aload_n dX8_sale_5 rfl rfl ?_
  refine mx_iconst dX8_sale_6 ic_0 ?_
  refine mx_putI 8 0 (ref := "PrairiePoolModel") cl_8 (Nat.le_of_ble_eq_true rfl) (Or.inl q1627) (Or.inl rfl) dX8_sale_7 (Or.inl rfl) rfl (ly8_k La0_h1) ?_
  refine mx_nmI  (fun h2 eh2 Xh2 Kh2 Lh2 => ?_)
  have H := H h2 eh2 Xh2
  have Kh2 := Kh2.trans Kh1
  have Lh2 := Lh2.trans Lh1
  have La0_h2 := La0_h1.ext Xh2
  refine mx_iload_n dX8_sale_10 rfl rfl ?_
  refine mx_i2l dX8_sale_11 ?_
  refine mx_lconst dX8_sale_12 lc_0 ?_
  refine mx_lconst dX8_sale_13 lc_1 ?_
  refine mx_callS (y' := mi_X8_isIn) (vs := [jv x1.toInt64, jv (0 : Int64), jv (1 : Int64)]) (st := []) (al' := [some (jv x1.toInt64), none, some (jv (0 : Int64)), none, some (jv (1 : Int64)), none]) S_X8_isIn q1996 dX8_sale_14 rfl rfl (Nat.le_of_ble_eq_true rfl) (Nat.le_of_ble_eq_true rfl) ?_
  refine mx_lload_n dX8_isIn_0 rfl rfl ?_
  refine mx_lload_n dX8_isIn_1 rfl rfl ?_
  refine mx_lif_lt (tgt := 17) dX8_isIn_2 dX8_isIn_3 rfl (fun c3 => ?_) (fun c3 => ?_)
  · have H := H.1 c3
    refine mx_iconst dX8_isIn_17 ic_0 ?_
    refine mx_zretK rfl dX8_isIn_18 (Or.inl rfl) ?_
    refine mx_if_eq (tgt := 27) dX8_sale_17 rfl (fun _ => ?_) (fun _ => absurd ‹_› (by decide))
    refine mx_aload_n dX8_sale_27 rfl rfl ?_
    refine mx_iconst dX8_sale_28 ic_2 ?_
    refine mx_callV 8 (y' := mi_X8_refuse) (vs := [iv (2 : Int32)]) (st := []) (al' := [some (rv a0), some (iv (2 : Int32))]) cl_8 V_X8_refuse (Or.inl q1999) dX8_sale_29 rfl rfl (Nat.le_of_ble_eq_true rfl) (Nat.le_of_ble_eq_true rfl) (ly8_k La0_h2) ?_
    refine mx_aload_n dX8_refuse_0 rfl rfl ?_
    refine mx_iload_n dX8_refuse_1 rfl rfl ?_
    refine mx_putI 8 0 (ref := "PrairiePoolModel") cl_8 (Nat.le_of_ble_eq_true rfl) (Or.inl q1627) (Or.inl rfl) dX8_refuse_2 (Or.inl rfl) rfl (ly8_k La0_h2) ?_
    refine mx_nmI  (fun h4 eh4 Xh4 Kh4 Lh4 => ?_)
    have H := H h4 eh4 Xh4
    have Kh4 := Kh4.trans Kh2
    have Lh4 := Lh4.trans Lh2
    have La0_h4 := La0_h2.ext Xh4
    refine mx_iconst dX8_refuse_5 ic_m1 ?_
    refine mx_iretK rfl dX8_refuse_6 ?_
    exact mx_iret rfl dX8_sale_32 H
  · have H := H.2 c3
    refine mx_lload_n dX8_isIn_6 rfl rfl ?_
    refine mx_lload dX8_isIn_7 rfl ?_
    refine mx_lif_gt (tgt := 17) dX8_isIn_9 dX8_isIn_10 rfl (fun c5 => ?_) (fun c5 => ?_)
    · have H := H.1 c5
      refine mx_iconst dX8_isIn_17 ic_0 ?_
      refine mx_zretK rfl dX8_isIn_18 (Or.inl rfl) ?_
      refine mx_if_eq (tgt := 27) dX8_sale_17 rfl (fun _ => ?_) (fun _ => absurd ‹_› (by decide))
      refine mx_aload_n dX8_sale_27 rfl rfl ?_
      refine mx_iconst dX8_sale_28 ic_2 ?_
      refine mx_callV 8 (y' := mi_X8_refuse) (vs := [iv (2 : Int32)]) (st := []) (al' := [some (rv a0), some (iv (2 : Int32))]) cl_8 V_X8_refuse (Or.inl q1999) dX8_sale_29 rfl rfl (Nat.le_of_ble_eq_true rfl) (Nat.le_of_ble_eq_true rfl) (ly8_k La0_h2) ?_
      refine mx_aload_n dX8_refuse_0 rfl rfl ?_
      refine mx_iload_n dX8_refuse_1 rfl rfl ?_
      refine mx_putI 8 0 (ref := "PrairiePoolModel") cl_8 (Nat.le_of_ble_eq_true rfl) (Or.inl q1627) (Or.inl rfl) dX8_refuse_2 (Or.inl rfl) rfl (ly8_k La0_h2) ?_
      refine mx_nmI  (fun h6 eh6 Xh6 Kh6 Lh6 => ?_)
      have H := H h6 eh6 Xh6
      have Kh6 := Kh6.trans Kh2
      have Lh6 := Lh6.trans Lh2
      have La0_h6 := La0_h2.ext Xh6
      refine mx_iconst dX8_refuse_5 ic_m1 ?_
      refine mx_iretK rfl dX8_refuse_6 ?_
      exact mx_iret rfl dX8_sale_32 H
    · have H := H.2 c5
      refine mx_iconst dX8_isIn_13 ic_1 ?_
      refine mx_goto (tgt := 18) dX8_isIn_14 rfl ?_
      refine mx_zretK rfl dX8_isIn_18 (Or.inr rfl) ?_
      refine mx_if_eq (tgt := 27) dX8_sale_17 rfl (fun _ => absurd ‹_› (by decide)) (fun _ => ?_)
      refine mx_iload_n dX8_sale_20 rfl rfl ?_
      refine mx_callS (y' := mi_X8_isGrade) (vs := [iv x2]) (st := []) (al' := [some (iv x2)]) S_X8_isGrade q2036 dX8_sale_21 rfl rfl (Nat.le_of_ble_eq_true rfl) (Nat.le_of_ble_eq_true rfl) ?_
      refine mx_iload_n dX8_isGrade_0 rfl rfl ?_
      refine mx_i2l dX8_isGrade_1 ?_
      refine mx_lconst dX8_isGrade_2 lc_0 ?_
      refine mx_ldc2 q1995 dX8_isGrade_3 ?_
      refine mx_callS (y' := mi_X8_isIn) (vs := [jv x2.toInt64, jv (0 : Int64), jv (5 : Int64)]) (st := []) (al' := [some (jv x2.toInt64), none, some (jv (0 : Int64)), none, some (jv (5 : Int64)), none]) S_X8_isIn q1996 dX8_isGrade_6 rfl rfl (Nat.le_of_ble_eq_true rfl) (Nat.le_of_ble_eq_true rfl) ?_
      refine mx_lload_n dX8_isIn_0 rfl rfl ?_
      refine mx_lload_n dX8_isIn_1 rfl rfl ?_
      refine mx_lif_lt (tgt := 17) dX8_isIn_2 dX8_isIn_3 rfl (fun c7 => ?_) (fun c7 => ?_)
      · have H := H.1 c7
        refine mx_iconst dX8_isIn_17 ic_0 ?_
        refine mx_zretK rfl dX8_isIn_18 (Or.inl rfl) ?_
        refine mx_zretK rfl dX8_isGrade_9 (Or.inl rfl) ?_
        refine mx_if_ne (tgt := 33) dX8_sale_24 rfl (fun _ => absurd ‹_› (by decide)) (fun _ => ?_)
        refine mx_aload_n dX8_sale_27 rfl rfl ?_
        refine mx_iconst dX8_sale_28 ic_2 ?_
        refine mx_callV 8 (y' := mi_X8_refuse) (vs := [iv (2 : Int32)]) (st := []) (al' := [some (rv a0), some (iv (2 : Int32))]) cl_8 V_X8_refuse (Or.inl q1999) dX8_sale_29 rfl rfl (Nat.le_of_ble_eq_true rfl) (Nat.le_of_ble_eq_true rfl) (ly8_k La0_h2) ?_
        refine mx_aload_n dX8_refuse_0 rfl rfl ?_
        refine mx_iload_n dX8_refuse_1 rfl rfl ?_
        refine mx_putI 8 0 (ref := "PrairiePoolModel") cl_8 (Nat.le_of_ble_eq_true rfl) (Or.inl q1627) (Or.inl rfl) dX8_refuse_2 (Or.inl rfl) rfl (ly8_k La0_h2) ?_
        refine mx_nmI  (fun h8 eh8 Xh8 Kh8 Lh8 => ?_)
        have H := H h8 eh8 Xh8
        have Kh8 := Kh8.trans Kh2
        have Lh8 := Lh8.trans Lh2
        have La0_h8 := La0_h2.ext Xh8
        refine mx_iconst dX8_refuse_5 ic_m1 ?_
        refine mx_iretK rfl dX8_refuse_6 ?_
        exact mx_iret rfl dX8_sale_32 H
      · have H := H.2 c7
        refine mx_lload_n dX8_isIn_6 rfl rfl ?_
        refine mx_lload dX8_isIn_7 rfl ?_
        refine mx_lif_gt (tgt := 17) dX8_isIn_9 dX8_isIn_10 rfl (fun c9 => ?_) (fun c9 => ?_)
        · have H := H.1 c9
          refine mx_iconst dX8_isIn_17 ic_0 ?_
          refine mx_zretK rfl dX8_isIn_18 (Or.inl rfl) ?_
          refine mx_zretK rfl dX8_isGrade_9 (Or.inl rfl) ?_
          refine mx_if_ne (tgt := 33) dX8_sale_24 rfl (fun _ => absurd ‹_› (by decide)) (fun _ => ?_)
          refine mx_aload_n dX8_sale_27 rfl rfl ?_
          refine mx_iconst dX8_sale_28 ic_2 ?_
          refine mx_callV 8 (y' := mi_X8_refuse) (vs := [iv (2 : Int32)]) (st := []) (al' := [some (rv a0), some (iv (2 : Int32))]) cl_8 V_X8_refuse (Or.inl q1999) dX8_sale_29 rfl rfl (Nat.le_of_ble_eq_true rfl) (Nat.le_of_ble_eq_true rfl) (ly8_k La0_h2) ?_
          refine mx_aload_n dX8_refuse_0 rfl rfl ?_
          refine mx_iload_n dX8_refuse_1 rfl rfl ?_
          refine mx_putI 8 0 (ref := "PrairiePoolModel") cl_8 (Nat.le_of_ble_eq_true rfl) (Or.inl q1627) (Or.inl rfl) dX8_refuse_2 (Or.inl rfl) rfl (ly8_k La0_h2) ?_
          refine mx_nmI  (fun h10 eh10 Xh10 Kh10 Lh10 => ?_)
          have H := H h10 eh10 Xh10
          have Kh10 := Kh10.trans Kh2
          have Lh10 := Lh10.trans Lh2
          have La0_h10 := La0_h2.ext Xh10
          refine mx_iconst dX8_refuse_5 ic_m1 ?_
          refine mx_iretK rfl dX8_refuse_6 ?_
          exact mx_iret rfl dX8_sale_32 H
        · have H := H.2 c9
          refine mx_iconst dX8_isIn_13 ic_1 ?_
          refine mx_goto (tgt := 18) dX8_isIn_14 rfl ?_
          refine mx_zretK rfl dX8_isIn_18 (Or.inr rfl) ?_
          refine mx_zretK rfl dX8_isGrade_9 (Or.inr rfl) ?_
          refine mx_if_ne (tgt := 33) dX8_sale_24 rfl (fun _ => ?_) (fun _ => absurd ‹_› (by decide))
          refine mx_iload_n dX8_sale_33 rfl rfl ?_
          refine mx_callS (y' := mi_X8_isYear) (vs := [iv x3]) (st := []) (al' := [some (iv x3)]) S_X8_isYear q2039 dX8_sale_34 rfl rfl (Nat.le_of_ble_eq_true rfl) (Nat.le_of_ble_eq_true rfl) ?_
          refine mx_iload_n dX8_isYear_0 rfl rfl ?_
          refine mx_i2l dX8_isYear_1 ?_
          refine mx_lconst dX8_isYear_2 lc_0 ?_
          refine mx_ldc2 q2042 dX8_isYear_3 ?_
          refine mx_callS (y' := mi_X8_isIn) (vs := [jv x3.toInt64, jv (0 : Int64), jv (9 : Int64)]) (st := []) (al' := [some (jv x3.toInt64), none, some (jv (0 : Int64)), none, some (jv (9 : Int64)), none]) S_X8_isIn q1996 dX8_isYear_6 rfl rfl (Nat.le_of_ble_eq_true rfl) (Nat.le_of_ble_eq_true rfl) ?_
          refine mx_lload_n dX8_isIn_0 rfl rfl ?_
          refine mx_lload_n dX8_isIn_1 rfl rfl ?_
          refine mx_lif_lt (tgt := 17) dX8_isIn_2 dX8_isIn_3 rfl (fun c11 => ?_) (fun c11 => ?_)
          · have H := H.1 c11
            refine mx_iconst dX8_isIn_17 ic_0 ?_
            refine mx_zretK rfl dX8_isIn_18 (Or.inl rfl) ?_
            refine mx_zretK rfl dX8_isYear_9 (Or.inl rfl) ?_
            refine mx_if_eq (tgt := 66) dX8_sale_37 rfl (fun _ => ?_) (fun _ => absurd ‹_› (by decide))
            refine mx_aload_n dX8_sale_66 rfl rfl ?_
            refine mx_iconst dX8_sale_67 ic_5 ?_
            refine mx_callV 8 (y' := mi_X8_refuse) (vs := [iv (5 : Int32)]) (st := []) (al' := [some (rv a0), some (iv (5 : Int32))]) cl_8 V_X8_refuse (Or.inl q1999) dX8_sale_68 rfl rfl (Nat.le_of_ble_eq_true rfl) (Nat.le_of_ble_eq_true rfl) (ly8_k La0_h2) ?_
            refine mx_aload_n dX8_refuse_0 rfl rfl ?_
            refine mx_iload_n dX8_refuse_1 rfl rfl ?_
            refine mx_putI 8 0 (ref := "PrairiePoolModel") cl_8 (Nat.le_of_ble_eq_true rfl) (Or.inl q1627) (Or.inl rfl) dX8_refuse_2 (Or.inl rfl) rfl (ly8_k La0_h2) ?_
            refine mx_nmI  (fun h12 eh12 Xh12 Kh12 Lh12 => ?_)
            have H := H h12 eh12 Xh12
            have Kh12 := Kh12.trans Kh2
            have Lh12 := Lh12.trans Lh2
            have La0_h12 := La0_h2.ext Xh12
            refine mx_iconst dX8_refuse_5 ic_m1 ?_
            refine mx_iretK rfl dX8_refuse_6 ?_
            exact mx_iret rfl dX8_sale_71 H
          · have H := H.2 c11
            refine mx_lload_n dX8_isIn_6 rfl rfl ?_
            refine mx_lload dX8_isIn_7 rfl ?_
            refine mx_lif_gt (tgt := 17) dX8_isIn_9 dX8_isIn_10 rfl (fun c13 => ?_) (fun c13 => ?_)
            · have H := H.1 c13
              refine mx_iconst dX8_isIn_17 ic_0 ?_
              refine mx_zretK rfl dX8_isIn_18 (Or.inl rfl) ?_
              refine mx_zretK rfl dX8_isYear_9 (Or.inl rfl) ?_
              refine mx_if_eq (tgt := 66) dX8_sale_37 rfl (fun _ => ?_) (fun _ => absurd ‹_› (by decide))
              refine mx_aload_n dX8_sale_66 rfl rfl ?_
              refine mx_iconst dX8_sale_67 ic_5 ?_
              refine mx_callV 8 (y' := mi_X8_refuse) (vs := [iv (5 : Int32)]) (st := []) (al' := [some (rv a0), some (iv (5 : Int32))]) cl_8 V_X8_refuse (Or.inl q1999) dX8_sale_68 rfl rfl (Nat.le_of_ble_eq_true rfl) (Nat.le_of_ble_eq_true rfl) (ly8_k La0_h2) ?_
              refine mx_aload_n dX8_refuse_0 rfl rfl ?_
              refine mx_iload_n dX8_refuse_1 rfl rfl ?_
              refine mx_putI 8 0 (ref := "PrairiePoolModel") cl_8 (Nat.le_of_ble_eq_true rfl) (Or.inl q1627) (Or.inl rfl) dX8_refuse_2 (Or.inl rfl) rfl (ly8_k La0_h2) ?_
              refine mx_nmI  (fun h14 eh14 Xh14 Kh14 Lh14 => ?_)
              have H := H h14 eh14 Xh14
              have Kh14 := Kh14.trans Kh2
              have Lh14 := Lh14.trans Lh2
              have La0_h14 := La0_h2.ext Xh14
              refine mx_iconst dX8_refuse_5 ic_m1 ?_
              refine mx_iretK rfl dX8_refuse_6 ?_
              exact mx_iret rfl dX8_sale_71 H
            · have H := H.2 c13
              refine mx_iconst dX8_isIn_13 ic_1 ?_
              refine mx_goto (tgt := 18) dX8_isIn_14 rfl ?_
              refine mx_zretK rfl dX8_isIn_18 (Or.inr rfl) ?_
              refine mx_zretK rfl dX8_isYear_9 (Or.inr rfl) ?_
              refine mx_if_eq (tgt := 66) dX8_sale_37 rfl (fun _ => absurd ‹_› (by decide)) (fun _ => ?_)
              refine mx_iload dX8_sale_40 rfl ?_
              refine mx_i2l dX8_sale_42 ?_
              refine mx_lconst dX8_sale_43 lc_1 ?_
              refine mx_ldc2 q2004 dX8_sale_44 ?_
              refine mx_callS (y' := mi_X8_isIn) (vs := [jv x4.toInt64, jv (1 : Int64), jv (100000 : Int64)]) (st := []) (al' := [some (jv x4.toInt64), none, some (jv (1 : Int64)), none, some (jv (100000 : Int64)), none]) S_X8_isIn q1996 dX8_sale_47 rfl rfl (Nat.le_of_ble_eq_true rfl) (Nat.le_of_ble_eq_true rfl) ?_
              refine mx_lload_n dX8_isIn_0 rfl rfl ?_
              refine mx_lload_n dX8_isIn_1 rfl rfl ?_
              refine mx_lif_lt (tgt := 17) dX8_isIn_2 dX8_isIn_3 rfl (fun c15 => ?_) (fun c15 => ?_)
              · have H := H.1 c15
                refine mx_iconst dX8_isIn_17 ic_0 ?_
                refine mx_zretK rfl dX8_isIn_18 (Or.inl rfl) ?_
                refine mx_if_eq (tgt := 66) dX8_sale_50 rfl (fun _ => ?_) (fun _ => absurd ‹_› (by decide))
                refine mx_aload_n dX8_sale_66 rfl rfl ?_
                refine mx_iconst dX8_sale_67 ic_5 ?_
                refine mx_callV 8 (y' := mi_X8_refuse) (vs := [iv (5 : Int32)]) (st := []) (al' := [some (rv a0), some (iv (5 : Int32))]) cl_8 V_X8_refuse (Or.inl q1999) dX8_sale_68 rfl rfl (Nat.le_of_ble_eq_true rfl) (Nat.le_of_ble_eq_true rfl) (ly8_k La0_h2) ?_
                refine mx_aload_n dX8_refuse_0 rfl rfl ?_
                refine mx_iload_n dX8_refuse_1 rfl rfl ?_
                refine mx_putI 8 0 (ref := "PrairiePoolModel") cl_8 (Nat.le_of_ble_eq_true rfl) (Or.inl q1627) (Or.inl rfl) dX8_refuse_2 (Or.inl rfl) rfl (ly8_k La0_h2) ?_
                refine mx_nmI  (fun h16 eh16 Xh16 Kh16 Lh16 => ?_)
                have H := H h16 eh16 Xh16
                have Kh16 := Kh16.trans Kh2
                have Lh16 := Lh16.trans Lh2
                have La0_h16 := La0_h2.ext Xh16
                refine mx_iconst dX8_refuse_5 ic_m1 ?_
                refine mx_iretK rfl dX8_refuse_6 ?_
                exact mx_iret rfl dX8_sale_71 H
              · have H := H.2 c15
                refine mx_lload_n dX8_isIn_6 rfl rfl ?_
                refine mx_lload dX8_isIn_7 rfl ?_
                refine mx_lif_gt (tgt := 17) dX8_isIn_9 dX8_isIn_10 rfl (fun c17 => ?_) (fun c17 => ?_)
                · have H := H.1 c17
                  refine mx_iconst dX8_isIn_17 ic_0 ?_
                  refine mx_zretK rfl dX8_isIn_18 (Or.inl rfl) ?_
                  refine mx_if_eq (tgt := 66) dX8_sale_50 rfl (fun _ => ?_) (fun _ => absurd ‹_› (by decide))
                  refine mx_aload_n dX8_sale_66 rfl rfl ?_
                  refine mx_iconst dX8_sale_67 ic_5 ?_
                  refine mx_callV 8 (y' := mi_X8_refuse) (vs := [iv (5 : Int32)]) (st := []) (al' := [some (rv a0), some (iv (5 : Int32))]) cl_8 V_X8_refuse (Or.inl q1999) dX8_sale_68 rfl rfl (Nat.le_of_ble_eq_true rfl) (Nat.le_of_ble_eq_true rfl) (ly8_k La0_h2) ?_
                  refine mx_aload_n dX8_refuse_0 rfl rfl ?_
                  refine mx_iload_n dX8_refuse_1 rfl rfl ?_
                  refine mx_putI 8 0 (ref := "PrairiePoolModel") cl_8 (Nat.le_of_ble_eq_true rfl) (Or.inl q1627) (Or.inl rfl) dX8_refuse_2 (Or.inl rfl) rfl (ly8_k La0_h2) ?_
                  refine mx_nmI  (fun h18 eh18 Xh18 Kh18 Lh18 => ?_)
                  have H := H h18 eh18 Xh18
                  have Kh18 := Kh18.trans Kh2
                  have Lh18 := Lh18.trans Lh2
                  have La0_h18 := La0_h2.ext Xh18
                  refine mx_iconst dX8_refuse_5 ic_m1 ?_
                  refine mx_iretK rfl dX8_refuse_6 ?_
                  exact mx_iret rfl dX8_sale_71 H
                · have H := H.2 c17
                  refine mx_iconst dX8_isIn_13 ic_1 ?_
                  refine mx_goto (tgt := 18) dX8_isIn_14 rfl ?_
                  refine mx_zretK rfl dX8_isIn_18 (Or.inr rfl) ?_
                  refine mx_if_eq (tgt := 66) dX8_sale_50 rfl (fun _ => absurd ‹_› (by decide)) (fun _ => ?_)
                  refine mx_iload dX8_sale_53 rfl ?_
                  refine mx_i2l dX8_sale_55 ?_
                  refine mx_lconst dX8_sale_56 lc_0 ?_
                  refine mx_ldc2 q2023 dX8_sale_57 ?_
                  refine mx_callS (y' := mi_X8_isIn) (vs := [jv x5.toInt64, jv (0 : Int64), jv (1000 : Int64)]) (st := []) (al' := [some (jv x5.toInt64), none, some (jv (0 : Int64)), none, some (jv (1000 : Int64)), none]) S_X8_isIn q1996 dX8_sale_60 rfl rfl (Nat.le_of_ble_eq_true rfl) (Nat.le_of_ble_eq_true rfl) ?_
                  refine mx_lload_n dX8_isIn_0 rfl rfl ?_
                  refine mx_lload_n dX8_isIn_1 rfl rfl ?_
                  refine mx_lif_lt (tgt := 17) dX8_isIn_2 dX8_isIn_3 rfl (fun c19 => ?_) (fun c19 => ?_)
                  · have H := H.1 c19
                    refine mx_iconst dX8_isIn_17 ic_0 ?_
                    refine mx_zretK rfl dX8_isIn_18 (Or.inl rfl) ?_
                    refine mx_if_ne (tgt := 72) dX8_sale_63 rfl (fun _ => absurd ‹_› (by decide)) (fun _ => ?_)
                    refine mx_aload_n dX8_sale_66 rfl rfl ?_
                    refine mx_iconst dX8_sale_67 ic_5 ?_
                    refine mx_callV 8 (y' := mi_X8_refuse) (vs := [iv (5 : Int32)]) (st := []) (al' := [some (rv a0), some (iv (5 : Int32))]) cl_8 V_X8_refuse (Or.inl q1999) dX8_sale_68 rfl rfl (Nat.le_of_ble_eq_true rfl) (Nat.le_of_ble_eq_true rfl) (ly8_k La0_h2) ?_
                    refine mx_aload_n dX8_refuse_0 rfl rfl ?_
                    refine mx_iload_n dX8_refuse_1 rfl rfl ?_
                    refine mx_putI 8 0 (ref := "PrairiePoolModel") cl_8 (Nat.le_of_ble_eq_true rfl) (Or.inl q1627) (Or.inl rfl) dX8_refuse_2 (Or.inl rfl) rfl (ly8_k La0_h2) ?_
                    refine mx_nmI  (fun h20 eh20 Xh20 Kh20 Lh20 => ?_)
                    have H := H h20 eh20 Xh20
                    have Kh20 := Kh20.trans Kh2
                    have Lh20 := Lh20.trans Lh2
                    have La0_h20 := La0_h2.ext Xh20
                    refine mx_iconst dX8_refuse_5 ic_m1 ?_
                    refine mx_iretK rfl dX8_refuse_6 ?_
                    exact mx_iret rfl dX8_sale_71 H
                  · have H := H.2 c19
                    refine mx_lload_n dX8_isIn_6 rfl rfl ?_
                    refine mx_lload dX8_isIn_7 rfl ?_
                    refine mx_lif_gt (tgt := 17) dX8_isIn_9 dX8_isIn_10 rfl (fun c21 => ?_) (fun c21 => ?_)
                    · have H := H.1 c21
                      refine mx_iconst dX8_isIn_17 ic_0 ?_
                      refine mx_zretK rfl dX8_isIn_18 (Or.inl rfl) ?_
                      refine mx_if_ne (tgt := 72) dX8_sale_63 rfl (fun _ => absurd ‹_› (by decide)) (fun _ => ?_)
                      refine mx_aload_n dX8_sale_66 rfl rfl ?_
                      refine mx_iconst dX8_sale_67 ic_5 ?_
                      refine mx_callV 8 (y' := mi_X8_refuse) (vs := [iv (5 : Int32)]) (st := []) (al' := [some (rv a0), some (iv (5 : Int32))]) cl_8 V_X8_refuse (Or.inl q1999) dX8_sale_68 rfl rfl (Nat.le_of_ble_eq_true rfl) (Nat.le_of_ble_eq_true rfl) (ly8_k La0_h2) ?_
                      refine mx_aload_n dX8_refuse_0 rfl rfl ?_
                      refine mx_iload_n dX8_refuse_1 rfl rfl ?_
                      refine mx_putI 8 0 (ref := "PrairiePoolModel") cl_8 (Nat.le_of_ble_eq_true rfl) (Or.inl q1627) (Or.inl rfl) dX8_refuse_2 (Or.inl rfl) rfl (ly8_k La0_h2) ?_
                      refine mx_nmI  (fun h22 eh22 Xh22 Kh22 Lh22 => ?_)
                      have H := H h22 eh22 Xh22
                      have Kh22 := Kh22.trans Kh2
                      have Lh22 := Lh22.trans Lh2
                      have La0_h22 := La0_h2.ext Xh22
                      refine mx_iconst dX8_refuse_5 ic_m1 ?_
                      refine mx_iretK rfl dX8_refuse_6 ?_
                      exact mx_iret rfl dX8_sale_71 H
                    · have H := H.2 c21
                      refine mx_iconst dX8_isIn_13 ic_1 ?_
                      refine mx_goto (tgt := 18) dX8_isIn_14 rfl ?_
                      refine mx_zretK rfl dX8_isIn_18 (Or.inr rfl) ?_
                      refine mx_if_ne (tgt := 72) dX8_sale_63 rfl (fun _ => ?_) (fun _ => absurd ‹_› (by decide))
                      refine mx_aload_n dX8_sale_72 rfl rfl ?_
                      refine mx_iconst dX8_sale_73 ic_2 ?_
                      refine mx_iconst dX8_sale_74 ic_m1 ?_
                      refine mx_iload_n dX8_sale_75 rfl rfl ?_
                      refine mx_iconst dX8_sale_76 ic_m1 ?_
                      refine mx_iload_n dX8_sale_77 rfl rfl ?_
                      refine mx_iload_n dX8_sale_78 rfl rfl ?_
                      refine mx_iload dX8_sale_79 rfl ?_
                      refine mx_iload dX8_sale_81 rfl ?_
                      refine mx_iload dX8_sale_83 rfl ?_
                      refine mx_iload dX8_sale_85 rfl ?_
                      refine mx_callV 8 (y' := mi_X8_event) (vs := [iv (2 : Int32), iv (-1 : Int32), iv x1, iv (-1 : Int32), iv x2, iv x3, iv x4, iv x5, iv x6, iv x7]) (st := []) (al' := [some (rv a0), some (iv (2 : Int32)), some (iv (-1 : Int32)), some (iv x1), some (iv (-1 : Int32)), some (iv x2), some (iv x3), some (iv x4), some (iv x5), some (iv x6), some (iv x7)]) cl_8 V_X8_event (Or.inl q2024) dX8_sale_87 rfl rfl (Nat.le_of_ble_eq_true rfl) (Nat.le_of_ble_eq_true rfl) (ly8_k La0_h2) ?_
                      refine ma_ki H (fun r24 h23 Xh23 H => ?_) (fun x1 h1 X1 H => mt_out rfl H)
                      have H := H Xh23
                      have La0_h23 := La0_h2.ext Xh23
                      exact mx_iret rfl dX8_sale_90 H
theorem dX8_spoil_0 : decode mi_X8_spoil.2.1 0 = .ok (.aload_n 0, 1) := by decide +kernel
theorem dX8_spoil_1 : decode mi_X8_spoil.2.1 1 = .ok (.iconst 0, 1) := by decide +kernel
theorem dX8_spoil_2 : decode mi_X8_spoil.2.1 2 = .ok (.putfield 257, 3) := by decide +kernel
theorem dX8_spoil_5 : decode mi_X8_spoil.2.1 5 = .ok (.aload_n 0, 1) := by decide +kernel
theorem dX8_spoil_6 : decode mi_X8_spoil.2.1 6 = .ok (.iconst 0, 1) := by decide +kernel
theorem dX8_spoil_7 : decode mi_X8_spoil.2.1 7 = .ok (.putfield 260, 3) := by decide +kernel
theorem dX8_spoil_10 : decode mi_X8_spoil.2.1 10 = .ok (.aload_n 0, 1) := by decide +kernel
theorem dX8_spoil_11 : decode mi_X8_spoil.2.1 11 = .ok (.iload_n 1, 1) := by decide +kernel
theorem dX8_spoil_12 : decode mi_X8_spoil.2.1 12 = .ok (.invokevirtual 321, 3) := by decide +kernel
theorem dX8_spoil_15 : decode mi_X8_spoil.2.1 15 = .ok (.ifCond .eq 10, 3) := by decide +kernel
theorem dX8_spoil_18 : decode mi_X8_spoil.2.1 18 = .ok (.iload_n 2, 1) := by decide +kernel
theorem dX8_spoil_19 : decode mi_X8_spoil.2.1 19 = .ok (.invokestatic 332, 3) := by decide +kernel
theorem dX8_spoil_22 : decode mi_X8_spoil.2.1 22 = .ok (.ifCond .ne 9, 3) := by decide +kernel
theorem dX8_spoil_25 : decode mi_X8_spoil.2.1 25 = .ok (.aload_n 0, 1) := by decide +kernel
theorem dX8_spoil_26 : decode mi_X8_spoil.2.1 26 = .ok (.iconst 2, 1) := by decide +kernel
theorem dX8_spoil_27 : decode mi_X8_spoil.2.1 27 = .ok (.invokevirtual 297, 3) := by decide +kernel
theorem dX8_spoil_30 : decode mi_X8_spoil.2.1 30 = .ok (.ireturn, 1) := by decide +kernel
theorem dX8_spoil_31 : decode mi_X8_spoil.2.1 31 = .ok (.iload_n 3, 1) := by decide +kernel
theorem dX8_spoil_32 : decode mi_X8_spoil.2.1 32 = .ok (.invokestatic 335, 3) := by decide +kernel
theorem dX8_spoil_35 : decode mi_X8_spoil.2.1 35 = .ok (.ifCond .eq 16, 3) := by decide +kernel
theorem dX8_spoil_38 : decode mi_X8_spoil.2.1 38 = .ok (.iload 4, 2) := by decide +kernel
theorem dX8_spoil_40 : decode mi_X8_spoil.2.1 40 = .ok (.i2l, 1) := by decide +kernel
theorem dX8_spoil_41 : decode mi_X8_spoil.2.1 41 = .ok (.lconst 1, 1) := by decide +kernel
theorem dX8_spoil_42 : decode mi_X8_spoil.2.1 42 = .ok (.ldc2_w 302, 3) := by decide +kernel
theorem dX8_spoil_45 : decode mi_X8_spoil.2.1 45 = .ok (.invokestatic 265, 3) := by decide +kernel
theorem dX8_spoil_48 : decode mi_X8_spoil.2.1 48 = .ok (.ifCond .ne 9, 3) := by decide +kernel
theorem dX8_spoil_51 : decode mi_X8_spoil.2.1 51 = .ok (.aload_n 0, 1) := by decide +kernel
theorem dX8_spoil_52 : decode mi_X8_spoil.2.1 52 = .ok (.iconst 5, 1) := by decide +kernel
theorem dX8_spoil_53 : decode mi_X8_spoil.2.1 53 = .ok (.invokevirtual 297, 3) := by decide +kernel
theorem dX8_spoil_56 : decode mi_X8_spoil.2.1 56 = .ok (.ireturn, 1) := by decide +kernel
theorem dX8_spoil_57 : decode mi_X8_spoil.2.1 57 = .ok (.aload_n 0, 1) := by decide +kernel
theorem dX8_spoil_58 : decode mi_X8_spoil.2.1 58 = .ok (.iconst 3, 1) := by decide +kernel
theorem dX8_spoil_59 : decode mi_X8_spoil.2.1 59 = .ok (.iconst (-1), 1) := by decide +kernel
theorem dX8_spoil_60 : decode mi_X8_spoil.2.1 60 = .ok (.iload_n 1, 1) := by decide +kernel
theorem dX8_spoil_61 : decode mi_X8_spoil.2.1 61 = .ok (.iconst (-1), 1) := by decide +kernel
theorem dX8_spoil_62 : decode mi_X8_spoil.2.1 62 = .ok (.iload_n 2, 1) := by decide +kernel
theorem dX8_spoil_63 : decode mi_X8_spoil.2.1 63 = .ok (.iload_n 3, 1) := by decide +kernel
theorem dX8_spoil_64 : decode mi_X8_spoil.2.1 64 = .ok (.iload 4, 2) := by decide +kernel
theorem dX8_spoil_66 : decode mi_X8_spoil.2.1 66 = .ok (.iconst 0, 1) := by decide +kernel
theorem dX8_spoil_67 : decode mi_X8_spoil.2.1 67 = .ok (.iload 5, 2) := by decide +kernel
theorem dX8_spoil_69 : decode mi_X8_spoil.2.1 69 = .ok (.iload 6, 2) := by decide +kernel
theorem dX8_spoil_71 : decode mi_X8_spoil.2.1 71 = .ok (.invokevirtual 328, 3) := by decide +kernel
theorem dX8_spoil_74 : decode mi_X8_spoil.2.1 74 = .ok (.ireturn, 1) := by decide +kernel
theorem v_X8_spoil {G : ma_G} {d : Nat} {a0 : Nat} {x1 : Int32} {x2 : Int32} {x3 : Int32} {x4 : Int32} {x5 : Int32} {x6 : Int32} {h : ah_T} {Q : Option ma_V → ah_T → Prop} {E : Nat → ah_T → Prop} (La0_h : LY8 h a0) (H : ∀ h1 : ah_T, h1 = ah_wI h a0 1 (0 : Int32) → ah_ext h h1 → ∀ h2 : ah_T, h2 = ah_wI h1 a0 0 (0 : Int32) → ah_ext h1 h2 → (x1.toInt64 < (0 : Int64) → ∀ h4 : ah_T, h4 = ah_wI h2 a0 0 (2 : Int32) → ah_ext h2 h4 → Q (some (iv (-1 : Int32))) h4) ∧ (¬ x1.toInt64 < (0 : Int64) → (((ah_I h a0 6) - (1 : Int32)).toInt64 < x1.toInt64 → ∀ h6 : ah_T, h6 = ah_wI h2 a0 0 (2 : Int32) → ah_ext h2 h6 → Q (some (iv (-1 : Int32))) h6) ∧ (¬ ((ah_I h a0 6) - (1 : Int32)).toInt64 < x1.toInt64 → (x2.toInt64 < (0 : Int64) → ∀ h8 : ah_T, h8 = ah_wI h2 a0 0 (2 : Int32) → ah_ext h2 h8 → Q (some (iv (-1 : Int32))) h8) ∧ (¬ x2.toInt64 < (0 : Int64) → ((5 : Int64) < x2.toInt64 → ∀ h10 : ah_T, h10 = ah_wI h2 a0 0 (2 : Int32) → ah_ext h2 h10 → Q (some (iv (-1 : Int32))) h10) ∧ (¬ (5 : Int64) < x2.toInt64 → (x3.toInt64 < (0 : Int64) → ∀ h12 : ah_T, h12 = ah_wI h2 a0 0 (5 : Int32) → ah_ext h2 h12 → Q (some (iv (-1 : Int32))) h12) ∧ (¬ x3.toInt64 < (0 : Int64) → ((9 : Int64) < x3.toInt64 → ∀ h14 : ah_T, h14 = ah_wI h2 a0 0 (5 : Int32) → ah_ext h2 h14 → Q (some (iv (-1 : Int32))) h14) ∧ (¬ (9 : Int64) < x3.toInt64 → (x4.toInt64 < (1 : Int64) → ∀ h16 : ah_T, h16 = ah_wI h2 a0 0 (5 : Int32) → ah_ext h2 h16 → Q (some (iv (-1 : Int32))) h16) ∧ (¬ x4.toInt64 < (1 : Int64) → ((100000 : Int64) < x4.toInt64 → ∀ h18 : ah_T, h18 = ah_wI h2 a0 0 (5 : Int32) → ah_ext h2 h18 → Q (some (iv (-1 : Int32))) h18) ∧ (¬ (100000 : Int64) < x4.toInt64 → MX G mi_X8_event (d + 1) 0 [some (rv a0), some (iv (3 : Int32)), some (iv (-1 : Int32)), some (iv x1), some (iv (-1 : Int32)), some (iv x2), some (iv x3), some (iv x4), some (iv (0 : Int32)), some (iv x5), some (iv x6)] [] h2 (Qi fun r20 h19 => ah_ext h2 h19 → Q (some (iv r20)) h19) E))))))))) : MX G mi_X8_spoil (d + 2) 0 [some (rv a0), some (iv x1), some (iv x2), some (iv x3), some (iv x4), some (iv x5), some (iv x6)] [] h Q E := by
  refine mx_aload_n dX8_spoil_0 rfl rfl ?_
  refine mx_iconst dX8_spoil_1 ic_0 ?_
  refine mx_putI 8 1 (ref := "PrairiePoolModel") cl_8 (Nat.le_of_ble_eq_true rfl) (Or.inl q1628) (Or.inl rfl) dX8_spoil_2 (Or.inl rfl) rfl (ly8_k La0_h) ?_
  refine mx_nmI  (fun h1 eh1 Xh1 Kh1 Lh1 => ?_)
  have H := H h1 eh1 Xh1
  have La0_h1 := La0_h.ext Xh1
  refine mx_aload_n dX8_spoil_5 rfl rfl ?_
  refine mx_iconst dX8_spoil_6 ic_0 ?_
  refine mx_putI 8 0 (ref := "PrairiePoolModel") cl_8 (Nat.le_of_ble_eq_true rfl) (Or.inl q1627) (Or.inl rfl) dX8_spoil_7 (Or.inl rfl) rfl (ly8_k La0_h1) ?_
  refine mx_nmI  (fun h2 eh2 Xh2 Kh2 Lh2 => ?_)
  have H := H h2 eh2 Xh2
  have Kh2 := Kh2.trans Kh1
  have Lh2 := Lh2.trans Lh1
  have La0_h2 := La0_h1.ext Xh2
  refine mx_aload_n dX8_spoil_10 rfl rfl ?_
  refine mx_iload_n dX8_spoil_11 rfl rfl ?_
  refine mx_callV 8 (y' := mi_X8_isElevator) (vs := [iv x1]) (st := []) (al' := [some (rv a0), some (iv x1)]) cl_8 V_X8_isElevator (Or.inl q2018) dX8_spoil_12 rfl rfl (Nat.le_of_ble_eq_true rfl) (Nat.le_of_ble_eq_true rfl) (ly8_k La0_h2) ?_
  refine mx_iload_n dX8_isElevator_0 rfl rfl ?_
  refine mx_i2l dX8_isElevator_1 ?_
  refine mx_lconst dX8_isElevator_2 lc_0 ?_
  refine mx_aload_n dX8_isElevator_3 rfl rfl ?_
  refine mx_get 8 6 (ref := "PrairiePoolModel") cl_8 (Nat.le_of_ble_eq_true rfl) (Or.inl q1633) (Or.inl rfl) dX8_isElevator_4 (fv_8_6 _ _) (ly8_k La0_h2) ?_
  refine mx_ti ((ah_skIK eh2 (by decide)).trans (ah_skIK eh1 (by decide))) ?_
  refine mx_iconst dX8_isElevator_7 ic_1 ?_
  refine mx_isub dX8_isElevator_8 ?_
  refine mx_i2l dX8_isElevator_9 ?_
  refine mx_callS (y' := mi_X8_isIn) (vs := [jv x1.toInt64, jv (0 : Int64), jv ((ah_I h a0 6) - (1 : Int32)).toInt64]) (st := []) (al' := [some (jv x1.toInt64), none, some (jv (0 : Int64)), none, some (jv ((ah_I h a0 6) - (1 : Int32)).toInt64), none]) S_X8_isIn q1996 dX8_isElevator_10 rfl rfl (Nat.le_of_ble_eq_true rfl) (Nat.le_of_ble_eq_true rfl) ?_
  refine mx_lload_n dX8_isIn_0 rfl rfl ?_
  refine mx_lload_n dX8_isIn_1 rfl rfl ?_
  refine mx_lif_lt (tgt := 17) dX8_isIn_2 dX8_isIn_3 rfl (fun c3 => ?_) (fun c3 => ?_)
  · have H := H.1 c3
    refine mx_iconst dX8_isIn_17 ic_0 ?_
    refine mx_zretK rfl dX8_isIn_18 (Or.inl rfl) ?_
    refine mx_zretK rfl dX8_isElevator_13 (Or.inl rfl) ?_
    refine mx_if_eq (tgt := 25) dX8_spoil_15 rfl (fun _ => ?_) (fun _ => absurd ‹_› (by decide))
    refine mx_aload_n dX8_spoil_25 rfl rfl ?_
    refine mx_iconst dX8_spoil_26 ic_2 ?_
    refine mx_callV 8 (y' := mi_X8_refuse) (vs := [iv (2 : Int32)]) (st := []) (al' := [some (rv a0), some (iv (2 : Int32))]) cl_8 V_X8_refuse (Or.inl q1999) dX8_spoil_27 rfl rfl (Nat.le_of_ble_eq_true rfl) (Nat.le_of_ble_eq_true rfl) (ly8_k La0_h2) ?_
    refine mx_aload_n dX8_refuse_0 rfl rfl ?_
    refine mx_iload_n dX8_refuse_1 rfl rfl ?_
    refine mx_putI 8 0 (ref := "PrairiePoolModel") cl_8 (Nat.le_of_ble_eq_true rfl) (Or.inl q1627) (Or.inl rfl) dX8_refuse_2 (Or.inl rfl) rfl (ly8_k La0_h2) ?_
    refine mx_nmI  (fun h4 eh4 Xh4 Kh4 Lh4 => ?_)
    have H := H h4 eh4 Xh4
    have Kh4 := Kh4.trans Kh2
    have Lh4 := Lh4.trans Lh2
    have La0_h4 := La0_h2.ext Xh4
    refine mx_iconst dX8_refuse_5 ic_m1 ?_
    refine mx_iretK rfl dX8_refuse_6 ?_
    exact mx_iret rfl dX8_spoil_30 H
  · have H := H.2 c3
    refine mx_lload_n dX8_isIn_6 rfl rfl ?_
    refine mx_lload dX8_isIn_7 rfl ?_
    refine mx_lif_gt (tgt := 17) dX8_isIn_9 dX8_isIn_10 rfl (fun c5 => ?_) (fun c5 => ?_)
    · have H := H.1 c5
      refine mx_iconst dX8_isIn_17 ic_0 ?_
      refine mx_zretK rfl dX8_isIn_18 (Or.inl rfl) ?_
      refine mx_zretK rfl dX8_isElevator_13 (Or.inl rfl) ?_
      refine mx_if_eq (tgt := 25) dX8_spoil_15 rfl (fun _ => ?_) (fun _ => absurd ‹_› (by decide))
      refine mx_aload_n dX8_spoil_25 rfl rfl ?_
      refine mx_iconst dX8_spoil_26 ic_2 ?_
      refine mx_callV 8 (y' := mi_X8_refuse) (vs := [iv (2 : Int32)]) (st := []) (al' := [some (rv a0), some (iv (2 : Int32))]) cl_8 V_X8_refuse (Or.inl q1999) dX8_spoil_27 rfl rfl (Nat.le_of_ble_eq_true rfl) (Nat.le_of_ble_eq_true rfl) (ly8_k La0_h2) ?_
      refine mx_aload_n dX8_refuse_0 rfl rfl ?_
      refine mx_iload_n dX8_refuse_1 rfl rfl ?_
      refine mx_putI 8 0 (ref := "PrairiePoolModel") cl_8 (Nat.le_of_ble_eq_true rfl) (Or.inl q1627) (Or.inl rfl) dX8_refuse_2 (Or.inl rfl) rfl (ly8_k La0_h2) ?_
      refine mx_nmI  (fun h6 eh6 Xh6 Kh6 Lh6 => ?_)
      have H := H h6 eh6 Xh6
      have Kh6 := Kh6.trans Kh2
      have Lh6 := Lh6.trans Lh2
      have La0_h6 := La0_h2.ext Xh6
      refine mx_iconst dX8_refuse_5 ic_m1 ?_
      refine mx_iretK rfl dX8_refuse_6 ?_
      exact mx_iret rfl dX8_spoil_30 H
    · have H := H.2 c5
      refine mx_iconst dX8_isIn_13 ic_1 ?_
      refine mx_goto (tgt := 18) dX8_isIn_14 rfl ?_
      refine mx_zretK rfl dX8_isIn_18 (Or.inr rfl) ?_
      refine mx_zretK rfl dX8_isElevator_13 (Or.inr rfl) ?_
      refine mx_if_eq (tgt := 25) dX8_spoil_15 rfl (fun _ => absurd ‹_› (by decide)) (fun _ => ?_)
      refine mx_iload_n dX8_spoil_18 rfl rfl ?_
      refine mx_callS (y' := mi_X8_isGrade) (vs := [iv x2]) (st := []) (al' := [some (iv x2)]) S_X8_isGrade q2036 dX8_spoil_19 rfl rfl (Nat.le_of_ble_eq_true rfl) (Nat.le_of_ble_eq_true rfl) ?_
      refine mx_iload_n dX8_isGrade_0 rfl rfl ?_
      refine mx_i2l dX8_isGrade_1 ?_
      refine mx_lconst dX8_isGrade_2 lc_0 ?_
      refine mx_ldc2 q1995 dX8_isGrade_3 ?_
      refine mx_callS (y' := mi_X8_isIn) (vs := [jv x2.toInt64, jv (0 : Int64), jv (5 : Int64)]) (st := []) (al' := [some (jv x2.toInt64), none, some (jv (0 : Int64)), none, some (jv (5 : Int64)), none]) S_X8_isIn q1996 dX8_isGrade_6 rfl rfl (Nat.le_of_ble_eq_true rfl) (Nat.le_of_ble_eq_true rfl) ?_
      refine mx_lload_n dX8_isIn_0 rfl rfl ?_
      refine mx_lload_n dX8_isIn_1 rfl rfl ?_
      refine mx_lif_lt (tgt := 17) dX8_isIn_2 dX8_isIn_3 rfl (fun c7 => ?_) (fun c7 => ?_)
      · have H := H.1 c7
        refine mx_iconst dX8_isIn_17 ic_0 ?_
        refine mx_zretK rfl dX8_isIn_18 (Or.inl rfl) ?_
        refine mx_zretK rfl dX8_isGrade_9 (Or.inl rfl) ?_
        refine mx_if_ne (tgt := 31) dX8_spoil_22 rfl (fun _ => absurd ‹_› (by decide)) (fun _ => ?_)
        refine mx_aload_n dX8_spoil_25 rfl rfl ?_
        refine mx_iconst dX8_spoil_26 ic_2 ?_
        refine mx_callV 8 (y' := mi_X8_refuse) (vs := [iv (2 : Int32)]) (st := []) (al' := [some (rv a0), some (iv (2 : Int32))]) cl_8 V_X8_refuse (Or.inl q1999) dX8_spoil_27 rfl rfl (Nat.le_of_ble_eq_true rfl) (Nat.le_of_ble_eq_true rfl) (ly8_k La0_h2) ?_
        refine mx_aload_n dX8_refuse_0 rfl rfl ?_
        refine mx_iload_n dX8_refuse_1 rfl rfl ?_
        refine mx_putI 8 0 (ref := "PrairiePoolModel") cl_8 (Nat.le_of_ble_eq_true rfl) (Or.inl q1627) (Or.inl rfl) dX8_refuse_2 (Or.inl rfl) rfl (ly8_k La0_h2) ?_
        refine mx_nmI  (fun h8 eh8 Xh8 Kh8 Lh8 => ?_)
        have H := H h8 eh8 Xh8
        have Kh8 := Kh8.trans Kh2
        have Lh8 := Lh8.trans Lh2
        have La0_h8 := La0_h2.ext Xh8
        refine mx_iconst dX8_refuse_5 ic_m1 ?_
        refine mx_iretK rfl dX8_refuse_6 ?_
        exact mx_iret rfl dX8_spoil_30 H
      · have H := H.2 c7
        refine mx_lload_n dX8_isIn_6 rfl rfl ?_
        refine mx_lload dX8_isIn_7 rfl ?_
        refine mx_lif_gt (tgt := 17) dX8_isIn_9 dX8_isIn_10 rfl (fun c9 => ?_) (fun c9 => ?_)
        · have H := H.1 c9
          refine mx_iconst dX8_isIn_17 ic_0 ?_
          refine mx_zretK rfl dX8_isIn_18 (Or.inl rfl) ?_
          refine mx_zretK rfl dX8_isGrade_9 (Or.inl rfl) ?_
          refine mx_if_ne (tgt := 31) dX8_spoil_22 rfl (fun _ => absurd ‹_› (by decide)) (fun _ => ?_)
          refine mx_aload_n dX8_spoil_25 rfl rfl ?_
          refine mx_iconst dX8_spoil_26 ic_2 ?_
          refine mx_callV 8 (y' := mi_X8_refuse) (vs := [iv (2 : Int32)]) (st := []) (al' := [some (rv a0), some (iv (2 : Int32))]) cl_8 V_X8_refuse (Or.inl q1999) dX8_spoil_27 rfl rfl (Nat.le_of_ble_eq_true rfl) (Nat.le_of_ble_eq_true rfl) (ly8_k La0_h2) ?_
          refine mx_aload_n dX8_refuse_0 rfl rfl ?_
          refine mx_iload_n dX8_refuse_1 rfl rfl ?_
          refine mx_putI 8 0 (ref := "PrairiePoolModel") cl_8 (Nat.le_of_ble_eq_true rfl) (Or.inl q1627) (Or.inl rfl) dX8_refuse_2 (Or.inl rfl) rfl (ly8_k La0_h2) ?_
          refine mx_nmI  (fun h10 eh10 Xh10 Kh10 Lh10 => ?_)
          have H := H h10 eh10 Xh10
          have Kh10 := Kh10.trans Kh2
          have Lh10 := Lh10.trans Lh2
          have La0_h10 := La0_h2.ext Xh10
          refine mx_iconst dX8_refuse_5 ic_m1 ?_
          refine mx_iretK rfl dX8_refuse_6 ?_
          exact mx_iret rfl dX8_spoil_30 H
        · have H := H.2 c9
          refine mx_iconst dX8_isIn_13 ic_1 ?_
          refine mx_goto (tgt := 18) dX8_isIn_14 rfl ?_
          refine mx_zretK rfl dX8_isIn_18 (Or.inr rfl) ?_
          refine mx_zretK rfl dX8_isGrade_9 (Or.inr rfl) ?_
          refine mx_if_ne (tgt := 31) dX8_spoil_22 rfl (fun _ => ?_) (fun _ => absurd ‹_› (by decide))
          refine mx_iload_n dX8_spoil_31 rfl rfl ?_
          refine mx_callS (y' := mi_X8_isYear) (vs := [iv x3]) (st := []) (al' := [some (iv x3)]) S_X8_isYear q2039 dX8_spoil_32 rfl rfl (Nat.le_of_ble_eq_true rfl) (Nat.le_of_ble_eq_true rfl) ?_
          refine mx_iload_n dX8_isYear_0 rfl rfl ?_
          refine mx_i2l dX8_isYear_1 ?_
          refine mx_lconst dX8_isYear_2 lc_0 ?_
          refine mx_ldc2 q2042 dX8_isYear_3 ?_
          refine mx_callS (y' := mi_X8_isIn) (vs := [jv x3.toInt64, jv (0 : Int64), jv (9 : Int64)]) (st := []) (al' := [some (jv x3.toInt64), none, some (jv (0 : Int64)), none, some (jv (9 : Int64)), none]) S_X8_isIn q1996 dX8_isYear_6 rfl rfl (Nat.le_of_ble_eq_true rfl) (Nat.le_of_ble_eq_true rfl) ?_
          refine mx_lload_n dX8_isIn_0 rfl rfl ?_
          refine mx_lload_n dX8_isIn_1 rfl rfl ?_
          refine mx_lif_lt (tgt := 17) dX8_isIn_2 dX8_isIn_3 rfl (fun c11 => ?_) (fun c11 => ?_)
          · have H := H.1 c11
            refine mx_iconst dX8_isIn_17 ic_0 ?_
            refine mx_zretK rfl dX8_isIn_18 (Or.inl rfl) ?_
            refine mx_zretK rfl dX8_isYear_9 (Or.inl rfl) ?_
            refine mx_if_eq (tgt := 51) dX8_spoil_35 rfl (fun _ => ?_) (fun _ => absurd ‹_› (by decide))
            refine mx_aload_n dX8_spoil_51 rfl rfl ?_
            refine mx_iconst dX8_spoil_52 ic_5 ?_
            refine mx_callV 8 (y' := mi_X8_refuse) (vs := [iv (5 : Int32)]) (st := []) (al' := [some (rv a0), some (iv (5 : Int32))]) cl_8 V_X8_refuse (Or.inl q1999) dX8_spoil_53 rfl rfl (Nat.le_of_ble_eq_true rfl) (Nat.le_of_ble_eq_true rfl) (ly8_k La0_h2) ?_
            refine mx_aload_n dX8_refuse_0 rfl rfl ?_
            refine mx_iload_n dX8_refuse_1 rfl rfl ?_
            refine mx_putI 8 0 (ref := "PrairiePoolModel") cl_8 (Nat.le_of_ble_eq_true rfl) (Or.inl q1627) (Or.inl rfl) dX8_refuse_2 (Or.inl rfl) rfl (ly8_k La0_h2) ?_
            refine mx_nmI  (fun h12 eh12 Xh12 Kh12 Lh12 => ?_)
            have H := H h12 eh12 Xh12
            have Kh12 := Kh12.trans Kh2
            have Lh12 := Lh12.trans Lh2
            have La0_h12 := La0_h2.ext Xh12
            refine mx_iconst dX8_refuse_5 ic_m1 ?_
            refine mx_iretK rfl dX8_refuse_6 ?_
            exact mx_iret rfl dX8_spoil_56 H
          · have H := H.2 c11
            refine mx_lload_n dX8_isIn_6 rfl rfl ?_
            refine mx_lload dX8_isIn_7 rfl ?_
            refine mx_lif_gt (tgt := 17) dX8_isIn_9 dX8_isIn_10 rfl (fun c13 => ?_) (fun c13 => ?_)
            · have H := H.1 c13
              refine mx_iconst dX8_isIn_17 ic_0 ?_
              refine mx_zretK rfl dX8_isIn_18 (Or.inl rfl) ?_
              refine mx_zretK rfl dX8_isYear_9 (Or.inl rfl) ?_
              refine mx_if_eq (tgt := 51) dX8_spoil_35 rfl (fun _ => ?_) (fun _ => absurd ‹_› (by decide))
              refine mx_aload_n dX8_spoil_51 rfl rfl ?_
              refine mx_iconst dX8_spoil_52 ic_5 ?_
              refine mx_callV 8 (y' := mi_X8_refuse) (vs := [iv (5 : Int32)]) (st := []) (al' := [some (rv a0), some (iv (5 : Int32))]) cl_8 V_X8_refuse (Or.inl q1999) dX8_spoil_53 rfl rfl (Nat.le_of_ble_eq_true rfl) (Nat.le_of_ble_eq_true rfl) (ly8_k La0_h2) ?_
              refine mx_aload_n dX8_refuse_0 rfl rfl ?_
              refine mx_iload_n dX8_refuse_1 rfl rfl ?_
              refine mx_putI 8 0 (ref := "PrairiePoolModel") cl_8 (Nat.le_of_ble_eq_true rfl) (Or.inl q1627) (Or.inl rfl) dX8_refuse_2 (Or.inl rfl) rfl (ly8_k La0_h2) ?_
              refine mx_nmI  (fun h14 eh14 Xh14 Kh14 Lh14 => ?_)
              have H := H h14 eh14 Xh14
              have Kh14 := Kh14.trans Kh2
              have Lh14 := Lh14.trans Lh2
              have La0_h14 := La0_h2.ext Xh14
              refine mx_iconst dX8_refuse_5 ic_m1 ?_
              refine mx_iretK rfl dX8_refuse_6 ?_
              exact mx_iret rfl dX8_spoil_56 H
            · have H := H.2 c13
              refine mx_iconst dX8_isIn_13 ic_1 ?_
              refine mx_goto (tgt := 18) dX8_isIn_14 rfl ?_
              refine mx_zretK rfl dX8_isIn_18 (Or.inr rfl) ?_
              refine mx_zretK rfl dX8_isYear_9 (Or.inr rfl) ?_
              refine mx_if_eq (tgt := 51) dX8_spoil_35 rfl (fun _ => absurd ‹_› (by decide)) (fun _ => ?_)
              refine mx_iload dX8_spoil_38 rfl ?_
              refine mx_i2l dX8_spoil_40 ?_
              refine mx_lconst dX8_spoil_41 lc_1 ?_
              refine mx_ldc2 q2004 dX8_spoil_42 ?_
              refine mx_callS (y' := mi_X8_isIn) (vs := [jv x4.toInt64, jv (1 : Int64), jv (100000 : Int64)]) (st := []) (al' := [some (jv x4.toInt64), none, some (jv (1 : Int64)), none, some (jv (100000 : Int64)), none]) S_X8_isIn q1996 dX8_spoil_45 rfl rfl (Nat.le_of_ble_eq_true rfl) (Nat.le_of_ble_eq_true rfl) ?_
              refine mx_lload_n dX8_isIn_0 rfl rfl ?_
              refine mx_lload_n dX8_isIn_1 rfl rfl ?_
              refine mx_lif_lt (tgt := 17) dX8_isIn_2 dX8_isIn_3 rfl (fun c15 => ?_) (fun c15 => ?_)
              · have H := H.1 c15
                refine mx_iconst dX8_isIn_17 ic_0 ?_
                refine mx_zretK rfl dX8_isIn_18 (Or.inl rfl) ?_
                refine mx_if_ne (tgt := 57) dX8_spoil_48 rfl (fun _ => absurd ‹_› (by decide)) (fun _ => ?_)
                refine mx_aload_n dX8_spoil_51 rfl rfl ?_
                refine mx_iconst dX8_spoil_52 ic_5 ?_
                refine mx_callV 8 (y' := mi_X8_refuse) (vs := [iv (5 : Int32)]) (st := []) (al' := [some (rv a0), some (iv (5 : Int32))]) cl_8 V_X8_refuse (Or.inl q1999) dX8_spoil_53 rfl rfl (Nat.le_of_ble_eq_true rfl) (Nat.le_of_ble_eq_true rfl) (ly8_k La0_h2) ?_
                refine mx_aload_n dX8_refuse_0 rfl rfl ?_
                refine mx_iload_n dX8_refuse_1 rfl rfl ?_
                refine mx_putI 8 0 (ref := "PrairiePoolModel") cl_8 (Nat.le_of_ble_eq_true rfl) (Or.inl q1627) (Or.inl rfl) dX8_refuse_2 (Or.inl rfl) rfl (ly8_k La0_h2) ?_
                refine mx_nmI  (fun h16 eh16 Xh16 Kh16 Lh16 => ?_)
                have H := H h16 eh16 Xh16
                have Kh16 := Kh16.trans Kh2
                have Lh16 := Lh16.trans Lh2
                have La0_h16 := La0_h2.ext Xh16
                refine mx_iconst dX8_refuse_5 ic_m1 ?_
                refine mx_iretK rfl dX8_refuse_6 ?_
                exact mx_iret rfl dX8_spoil_56 H
              · have H := H.2 c15
                refine mx_lload_n dX8_isIn_6 rfl rfl ?_
                refine mx_lload dX8_isIn_7 rfl ?_
                refine mx_lif_gt (tgt := 17) dX8_isIn_9 dX8_isIn_10 rfl (fun c17 => ?_) (fun c17 => ?_)
                · have H := H.1 c17
                  refine mx_iconst dX8_isIn_17 ic_0 ?_
                  refine mx_zretK rfl dX8_isIn_18 (Or.inl rfl) ?_
                  refine mx_if_ne (tgt := 57) dX8_spoil_48 rfl (fun _ => absurd ‹_› (by decide)) (fun _ => ?_)
                  refine mx_aload_n dX8_spoil_51 rfl rfl ?_
                  refine mx_iconst dX8_spoil_52 ic_5 ?_
                  refine mx_callV 8 (y' := mi_X8_refuse) (vs := [iv (5 : Int32)]) (st := []) (al' := [some (rv a0), some (iv (5 : Int32))]) cl_8 V_X8_refuse (Or.inl q1999) dX8_spoil_53 rfl rfl (Nat.le_of_ble_eq_true rfl) (Nat.le_of_ble_eq_true rfl) (ly8_k La0_h2) ?_
                  refine mx_aload_n dX8_refuse_0 rfl rfl ?_
                  refine mx_iload_n dX8_refuse_1 rfl rfl ?_
                  refine mx_putI 8 0 (ref := "PrairiePoolModel") cl_8 (Nat.le_of_ble_eq_true rfl) (Or.inl q1627) (Or.inl rfl) dX8_refuse_2 (Or.inl rfl) rfl (ly8_k La0_h2) ?_
                  refine mx_nmI  (fun h18 eh18 Xh18 Kh18 Lh18 => ?_)
                  have H := H h18 eh18 Xh18
                  have Kh18 := Kh18.trans Kh2
                  have Lh18 := Lh18.trans Lh2
                  have La0_h18 := La0_h2.ext Xh18
                  refine mx_iconst dX8_refuse_5 ic_m1 ?_
                  refine mx_iretK rfl dX8_refuse_6 ?_
                  exact mx_iret rfl dX8_spoil_56 H
                · have H := H.2 c17
                  refine mx_iconst dX8_isIn_13 ic_1 ?_
                  refine mx_goto (tgt := 18) dX8_isIn_14 rfl ?_
                  refine mx_zretK rfl dX8_isIn_18 (Or.inr rfl) ?_
                  refine mx_if_ne (tgt := 57) dX8_spoil_48 rfl (fun _ => ?_) (fun _ => absurd ‹_› (by decide))
                  refine mx_aload_n dX8_spoil_57 rfl rfl ?_
                  refine mx_iconst dX8_spoil_58 ic_3 ?_
                  refine mx_iconst dX8_spoil_59 ic_m1 ?_
                  refine mx_iload_n dX8_spoil_60 rfl rfl ?_
                  refine mx_iconst dX8_spoil_61 ic_m1 ?_
                  refine mx_iload_n dX8_spoil_62 rfl rfl ?_
                  refine mx_iload_n dX8_spoil_63 rfl rfl ?_
                  refine mx_iload dX8_spoil_64 rfl ?_
                  refine mx_iconst dX8_spoil_66 ic_0 ?_
                  refine mx_iload dX8_spoil_67 rfl ?_
                  refine mx_iload dX8_spoil_69 rfl ?_
                  refine mx_callV 8 (y' := mi_X8_event) (vs := [iv (3 : Int32), iv (-1 : Int32), iv x1, iv (-1 : Int32), iv x2, iv x3, iv x4, iv (0 : Int32), iv x5, iv x6]) (st := []) (al' := [some (rv a0), some (iv (3 : Int32)), some (iv (-1 : Int32)), some (iv x1), some (iv (-1 : Int32)), some (iv x2), some (iv x3), some (iv x4), some (iv (0 : Int32)), some (iv x5), some (iv x6)]) cl_8 V_X8_event (Or.inl q2024) dX8_spoil_71 rfl rfl (Nat.le_of_ble_eq_true rfl) (Nat.le_of_ble_eq_true rfl) (ly8_k La0_h2) ?_
                  refine ma_ki H (fun r20 h19 Xh19 H => ?_) (fun x1 h1 X1 H => mt_out rfl H)
                  have H := H Xh19
                  have La0_h19 := La0_h2.ext Xh19
                  exact mx_iret rfl dX8_spoil_74 H
theorem dX8_grading_0 : decode mi_X8_grading.2.1 0 = .ok (.aload_n 0, 1) := by decide +kernel
theorem dX8_grading_1 : decode mi_X8_grading.2.1 1 = .ok (.iconst 0, 1) := by decide +kernel
theorem dX8_grading_2 : decode mi_X8_grading.2.1 2 = .ok (.putfield 257, 3) := by decide +kernel
theorem dX8_grading_5 : decode mi_X8_grading.2.1 5 = .ok (.aload_n 0, 1) := by decide +kernel
theorem dX8_grading_6 : decode mi_X8_grading.2.1 6 = .ok (.iconst 0, 1) := by decide +kernel
theorem dX8_grading_7 : decode mi_X8_grading.2.1 7 = .ok (.putfield 260, 3) := by decide +kernel
theorem dX8_grading_10 : decode mi_X8_grading.2.1 10 = .ok (.aload_n 0, 1) := by decide +kernel
theorem dX8_grading_11 : decode mi_X8_grading.2.1 11 = .ok (.iload_n 1, 1) := by decide +kernel
theorem dX8_grading_12 : decode mi_X8_grading.2.1 12 = .ok (.invokevirtual 338, 3) := by decide +kernel
theorem dX8_grading_15 : decode mi_X8_grading.2.1 15 = .ok (.ifCond .eq 22, 3) := by decide +kernel
theorem dX8_grading_18 : decode mi_X8_grading.2.1 18 = .ok (.iload_n 2, 1) := by decide +kernel
theorem dX8_grading_19 : decode mi_X8_grading.2.1 19 = .ok (.i2l, 1) := by decide +kernel
theorem dX8_grading_20 : decode mi_X8_grading.2.1 20 = .ok (.lconst 0, 1) := by decide +kernel
theorem dX8_grading_21 : decode mi_X8_grading.2.1 21 = .ok (.ldc2_w 271, 3) := by decide +kernel
theorem dX8_grading_24 : decode mi_X8_grading.2.1 24 = .ok (.invokestatic 265, 3) := by decide +kernel
theorem dX8_grading_27 : decode mi_X8_grading.2.1 27 = .ok (.ifCond .eq 10, 3) := by decide +kernel
theorem dX8_grading_30 : decode mi_X8_grading.2.1 30 = .ok (.iload_n 3, 1) := by decide +kernel
theorem dX8_grading_31 : decode mi_X8_grading.2.1 31 = .ok (.invokestatic 332, 3) := by decide +kernel
theorem dX8_grading_34 : decode mi_X8_grading.2.1 34 = .ok (.ifCond .ne 9, 3) := by decide +kernel
theorem dX8_grading_37 : decode mi_X8_grading.2.1 37 = .ok (.aload_n 0, 1) := by decide +kernel
theorem dX8_grading_38 : decode mi_X8_grading.2.1 38 = .ok (.iconst 2, 1) := by decide +kernel
theorem dX8_grading_39 : decode mi_X8_grading.2.1 39 = .ok (.invokevirtual 273, 3) := by decide +kernel
theorem dX8_grading_42 : decode mi_X8_grading.2.1 42 = .ok (.ireturn, 1) := by decide +kernel
theorem dX8_grading_43 : decode mi_X8_grading.2.1 43 = .ok (.iload 4, 2) := by decide +kernel
theorem dX8_grading_45 : decode mi_X8_grading.2.1 45 = .ok (.invokestatic 306, 3) := by decide +kernel
theorem dX8_grading_48 : decode mi_X8_grading.2.1 48 = .ok (.ifCond .ne 9, 3) := by decide +kernel
theorem dX8_grading_51 : decode mi_X8_grading.2.1 51 = .ok (.aload_n 0, 1) := by decide +kernel
theorem dX8_grading_52 : decode mi_X8_grading.2.1 52 = .ok (.iconst 5, 1) := by decide +kernel
theorem dX8_grading_53 : decode mi_X8_grading.2.1 53 = .ok (.invokevirtual 273, 3) := by decide +kernel
theorem dX8_grading_56 : decode mi_X8_grading.2.1 56 = .ok (.ireturn, 1) := by decide +kernel
theorem dX8_grading_57 : decode mi_X8_grading.2.1 57 = .ok (.aload_n 0, 1) := by decide +kernel
theorem dX8_grading_58 : decode mi_X8_grading.2.1 58 = .ok (.getfield 341, 3) := by decide +kernel
theorem dX8_grading_61 : decode mi_X8_grading.2.1 61 = .ok (.bipush 100, 2) := by decide +kernel
theorem dX8_grading_63 : decode mi_X8_grading.2.1 63 = .ok (.if_icmp .ne 10, 3) := by decide +kernel
theorem dX8_grading_66 : decode mi_X8_grading.2.1 66 = .ok (.aload_n 0, 1) := by decide +kernel
theorem dX8_grading_67 : decode mi_X8_grading.2.1 67 = .ok (.bipush 7, 2) := by decide +kernel
theorem dX8_grading_69 : decode mi_X8_grading.2.1 69 = .ok (.invokevirtual 273, 3) := by decide +kernel
theorem dX8_grading_72 : decode mi_X8_grading.2.1 72 = .ok (.ireturn, 1) := by decide +kernel
theorem dX8_grading_73 : decode mi_X8_grading.2.1 73 = .ok (.iload 4, 2) := by decide +kernel
theorem dX8_grading_75 : decode mi_X8_grading.2.1 75 = .ok (.aload_n 0, 1) := by decide +kernel
theorem dX8_grading_76 : decode mi_X8_grading.2.1 76 = .ok (.getfield 315, 3) := by decide +kernel
theorem dX8_grading_79 : decode mi_X8_grading.2.1 79 = .ok (.if_icmp .ge 10, 3) := by decide +kernel
theorem dX8_grading_82 : decode mi_X8_grading.2.1 82 = .ok (.aload_n 0, 1) := by decide +kernel
theorem dX8_grading_83 : decode mi_X8_grading.2.1 83 = .ok (.bipush 12, 2) := by decide +kernel
theorem dX8_grading_85 : decode mi_X8_grading.2.1 85 = .ok (.invokevirtual 273, 3) := by decide +kernel
theorem dX8_grading_88 : decode mi_X8_grading.2.1 88 = .ok (.ireturn, 1) := by decide +kernel
theorem dX8_grading_89 : decode mi_X8_grading.2.1 89 = .ok (.aload_n 0, 1) := by decide +kernel
theorem dX8_grading_90 : decode mi_X8_grading.2.1 90 = .ok (.getfield 65, 3) := by decide +kernel
theorem dX8_grading_93 : decode mi_X8_grading.2.1 93 = .ok (.aload_n 0, 1) := by decide +kernel
theorem dX8_grading_94 : decode mi_X8_grading.2.1 94 = .ok (.getfield 341, 3) := by decide +kernel
theorem dX8_grading_97 : decode mi_X8_grading.2.1 97 = .ok (.iload_n 1, 1) := by decide +kernel
theorem dX8_grading_98 : decode mi_X8_grading.2.1 98 = .ok (.iastore, 1) := by decide +kernel
theorem dX8_grading_99 : decode mi_X8_grading.2.1 99 = .ok (.aload_n 0, 1) := by decide +kernel
theorem dX8_grading_100 : decode mi_X8_grading.2.1 100 = .ok (.getfield 68, 3) := by decide +kernel
theorem dX8_grading_103 : decode mi_X8_grading.2.1 103 = .ok (.aload_n 0, 1) := by decide +kernel
theorem dX8_grading_104 : decode mi_X8_grading.2.1 104 = .ok (.getfield 341, 3) := by decide +kernel
theorem dX8_grading_107 : decode mi_X8_grading.2.1 107 = .ok (.iload_n 2, 1) := by decide +kernel
theorem dX8_grading_108 : decode mi_X8_grading.2.1 108 = .ok (.iastore, 1) := by decide +kernel
theorem dX8_grading_109 : decode mi_X8_grading.2.1 109 = .ok (.aload_n 0, 1) := by decide +kernel
theorem dX8_grading_110 : decode mi_X8_grading.2.1 110 = .ok (.getfield 71, 3) := by decide +kernel
theorem dX8_grading_113 : decode mi_X8_grading.2.1 113 = .ok (.aload_n 0, 1) := by decide +kernel
theorem dX8_grading_114 : decode mi_X8_grading.2.1 114 = .ok (.getfield 341, 3) := by decide +kernel
theorem dX8_grading_117 : decode mi_X8_grading.2.1 117 = .ok (.iload_n 3, 1) := by decide +kernel
theorem dX8_grading_118 : decode mi_X8_grading.2.1 118 = .ok (.iastore, 1) := by decide +kernel
theorem dX8_grading_119 : decode mi_X8_grading.2.1 119 = .ok (.aload_n 0, 1) := by decide +kernel
theorem dX8_grading_120 : decode mi_X8_grading.2.1 120 = .ok (.getfield 74, 3) := by decide +kernel
theorem dX8_grading_123 : decode mi_X8_grading.2.1 123 = .ok (.aload_n 0, 1) := by decide +kernel
theorem dX8_grading_124 : decode mi_X8_grading.2.1 124 = .ok (.getfield 341, 3) := by decide +kernel
theorem dX8_grading_127 : decode mi_X8_grading.2.1 127 = .ok (.iload 4, 2) := by decide +kernel
theorem dX8_grading_129 : decode mi_X8_grading.2.1 129 = .ok (.iastore, 1) := by decide +kernel
theorem dX8_grading_130 : decode mi_X8_grading.2.1 130 = .ok (.aload_n 0, 1) := by decide +kernel
theorem dX8_grading_131 : decode mi_X8_grading.2.1 131 = .ok (.dup, 1) := by decide +kernel
theorem dX8_grading_132 : decode mi_X8_grading.2.1 132 = .ok (.getfield 341, 3) := by decide +kernel
theorem dX8_grading_135 : decode mi_X8_grading.2.1 135 = .ok (.iconst 1, 1) := by decide +kernel
theorem dX8_grading_136 : decode mi_X8_grading.2.1 136 = .ok (.iadd, 1) := by decide +kernel
theorem dX8_grading_137 : decode mi_X8_grading.2.1 137 = .ok (.putfield 341, 3) := by decide +kernel
theorem dX8_grading_140 : decode mi_X8_grading.2.1 140 = .ok (.aload_n 0, 1) := by decide +kernel
theorem dX8_grading_141 : decode mi_X8_grading.2.1 141 = .ok (.iload 4, 2) := by decide +kernel
theorem dX8_grading_143 : decode mi_X8_grading.2.1 143 = .ok (.putfield 315, 3) := by decide +kernel
theorem dX8_grading_146 : decode mi_X8_grading.2.1 146 = .ok (.iconst 1, 1) := by decide +kernel
theorem dX8_grading_147 : decode mi_X8_grading.2.1 147 = .ok (.ireturn, 1) := by decide +kernel
theorem v_X8_grading {G : ma_G} {d : Nat} {a0 : Nat} {x1 : Int32} {x2 : Int32} {x3 : Int32} {x4 : Int32} {h : ah_T} {Q : Option ma_V → ah_T → Prop} {E : Nat → ah_T → Prop} (La0_h : LY8 h a0) (H : ∀ h1 : ah_T, h1 = ah_wI h a0 1 (0 : Int32) → ah_ext h h1 → ∀ h2 : ah_T, h2 = ah_wI h1 a0 0 (0 : Int32) → ah_ext h1 h2 → (x1.toInt64 < (0 : Int64) → ∀ h4 : ah_T, h4 = ah_wI h2 a0 0 (2 : Int32) → ah_ext h2 h4 → Q (some (iv (0 : Int32))) h4) ∧ (¬ x1.toInt64 < (0 : Int64) → (((ah_I h a0 7) - (1 : Int32)).toInt64 < x1.toInt64 → ∀ h6 : ah_T, h6 = ah_wI h2 a0 0 (2 : Int32) → ah_ext h2 h6 → Q (some (iv (0 : Int32))) h6) ∧ (¬ ((ah_I h a0 7) - (1 : Int32)).toInt64 < x1.toInt64 → vp_in x1 120 ∧ (¬ (ah_I h (a0 + 9) x1.toNatClampNeg) = 0 → ∀ h9 : ah_T, h9 = ah_wI h2 a0 0 (2 : Int32) → ah_ext h2 h9 → Q (some (iv (0 : Int32))) h9) ∧ ((ah_I h (a0 + 9) x1.toNatClampNeg) = 0 → (x2.toInt64 < (0 : Int64) → ∀ h11 : ah_T, h11 = ah_wI h2 a0 0 (2 : Int32) → ah_ext h2 h11 → Q (some (iv (0 : Int32))) h11) ∧ (¬ x2.toInt64 < (0 : Int64) → ((5 : Int64) < x2.toInt64 → ∀ h13 : ah_T, h13 = ah_wI h2 a0 0 (2 : Int32) → ah_ext h2 h13 → Q (some (iv (0 : Int32))) h13) ∧ (¬ (5 : Int64) < x2.toInt64 → (x3.toInt64 < (0 : Int64) → ∀ h15 : ah_T, h15 = ah_wI h2 a0 0 (2 : Int32) → ah_ext h2 h15 → Q (some (iv (0 : Int32))) h15) ∧ (¬ x3.toInt64 < (0 : Int64) → ((5 : Int64) < x3.toInt64 → ∀ h17 : ah_T, h17 = ah_wI h2 a0 0 (2 : Int32) → ah_ext h2 h17 → Q (some (iv (0 : Int32))) h17) ∧ (¬ (5 : Int64) < x3.toInt64 → (x4.toInt64 < (0 : Int64) → ∀ h19 : ah_T, h19 = ah_wI h2 a0 0 (5 : Int32) → ah_ext h2 h19 → Q (some (iv (0 : Int32))) h19) ∧ (¬ x4.toInt64 < (0 : Int64) → ((519 : Int64) < x4.toInt64 → ∀ h21 : ah_T, h21 = ah_wI h2 a0 0 (5 : Int32) → ah_ext h2 h21 → Q (some (iv (0 : Int32))) h21) ∧ (¬ (519 : Int64) < x4.toInt64 → (¬ (ah_I h a0 8) = (100 : Int32) → ((ah_I h a0 9) ≤ x4 → vp_in (ah_I h a0 8) 100 ∧ ∀ h25 : ah_T, h25 = ah_wI h2 (a0 + 19) (ah_I h a0 8).toNatClampNeg x1 → ah_ext h2 h25 → ∀ h26 : ah_T, h26 = ah_wI h25 (a0 + 20) (ah_I h a0 8).toNatClampNeg x2 → ah_ext h25 h26 → ∀ h27 : ah_T, h27 = ah_wI h26 (a0 + 21) (ah_I h a0 8).toNatClampNeg x3 → ah_ext h26 h27 → ∀ h28 : ah_T, h28 = ah_wI h27 (a0 + 22) (ah_I h a0 8).toNatClampNeg x4 → ah_ext h27 h28 → ∀ h29 : ah_T, h29 = ah_wI h28 a0 8 ((ah_I h a0 8) + (1 : Int32)) → ah_ext h28 h29 → ∀ h30 : ah_T, h30 = ah_wI h29 a0 9 x4 → ah_ext h29 h30 → Q (some (iv (1 : Int32))) h30) ∧ (¬ (ah_I h a0 9) ≤ x4 → ∀ h31 : ah_T, h31 = ah_wI h2 a0 0 (12 : Int32) → ah_ext h2 h31 → Q (some (iv (0 : Int32))) h31)) ∧ ((ah_I h a0 8) = (100 : Int32) → ∀ h32 : ah_T, h32 = ah_wI h2 a0 0 (7 : Int32) → ah_ext h2 h32 → Q (some (iv (0 : Int32))) h32))))))))))) : MX G mi_X8_grading (d + 2) 0 [some (rv a0), some (iv x1), some (iv x2), some (iv x3), some (iv x4)] [] h Q E := by
  refine mx_aload_n dX8_grading_0 rfl rfl ?_
  refine mx_iconst dX8_grading_1 ic_0 ?_
  refine mx_putI 8 1 (ref := "PrairiePoolModel") cl_8 (Nat.le_of_ble_eq_true rfl) (Or.inl q1628) (Or.inl rfl) dX8_grading_2 (Or.inl rfl) rfl (ly8_k La0_h) ?_
  refine mx_nmI  (fun h1 eh1 Xh1 Kh1 Lh1 => ?_)
  have H := H h1 eh1 Xh1
  have La0_h1 := La0_h.ext Xh1
  refine mx_aload_n dX8_grading_5 rfl rfl ?_
  refine mx_iconst dX8_grading_6 ic_0 ?_
  refine mx_putI 8 0 (ref := "PrairiePoolModel") cl_8 (Nat.le_of_ble_eq_true rfl) (Or.inl q1627) (Or.inl rfl) dX8_grading_7 (Or.inl rfl) rfl (ly8_k La0_h1) ?_
  refine mx_nmI  (fun h2 eh2 Xh2 Kh2 Lh2 => ?_)
  have H := H h2 eh2 Xh2
  have Kh2 := Kh2.trans Kh1
  have Lh2 := Lh2.trans Lh1
  have La0_h2 := La0_h1.ext Xh2
  refine mx_aload_n dX8_grading_10 rfl rfl ?_
  refine mx_iload_n dX8_grading_11 rfl rfl ?_
  refine mx_callV 8 (y' := mi_X8_isLoad) (vs := [iv x1]) (st := []) (al' := [some (rv a0), some (iv x1)]) cl_8 V_X8_isLoad (Or.inl q2055) dX8_grading_12 rfl rfl (Nat.le_of_ble_eq_true rfl) (Nat.le_of_ble_eq_true rfl) (ly8_k La0_h2) ?_
  refine mx_iload_n dX8_isLoad_0 rfl rfl ?_
  refine mx_i2l dX8_isLoad_1 ?_
  refine mx_lconst dX8_isLoad_2 lc_0 ?_
  refine mx_aload_n dX8_isLoad_3 rfl rfl ?_
  refine mx_get 8 7 (ref := "PrairiePoolModel") cl_8 (Nat.le_of_ble_eq_true rfl) (Or.inl q1634) (Or.inl rfl) dX8_isLoad_4 (fv_8_7 _ _) (ly8_k La0_h2) ?_
  refine mx_ti ((ah_skIK eh2 (by decide)).trans (ah_skIK eh1 (by decide))) ?_
  refine mx_iconst dX8_isLoad_7 ic_1 ?_
  refine mx_isub dX8_isLoad_8 ?_
  refine mx_i2l dX8_isLoad_9 ?_
  refine mx_callS (y' := mi_X8_isIn) (vs := [jv x1.toInt64, jv (0 : Int64), jv ((ah_I h a0 7) - (1 : Int32)).toInt64]) (st := []) (al' := [some (jv x1.toInt64), none, some (jv (0 : Int64)), none, some (jv ((ah_I h a0 7) - (1 : Int32)).toInt64), none]) S_X8_isIn q1996 dX8_isLoad_10 rfl rfl (Nat.le_of_ble_eq_true rfl) (Nat.le_of_ble_eq_true rfl) ?_
  refine mx_lload_n dX8_isIn_0 rfl rfl ?_
  refine mx_lload_n dX8_isIn_1 rfl rfl ?_
  refine mx_lif_lt (tgt := 17) dX8_isIn_2 dX8_isIn_3 rfl (fun c3 => ?_) (fun c3 => ?_)
  · have H := H.1 c3
    refine mx_iconst dX8_isIn_17 ic_0 ?_
    refine mx_zretK rfl dX8_isIn_18 (Or.inl rfl) ?_
    refine mx_if_eq (tgt := 29) dX8_isLoad_13 rfl (fun _ => ?_) (fun _ => absurd ‹_› (by decide))
    refine mx_iconst dX8_isLoad_29 ic_0 ?_
    refine mx_zretK rfl dX8_isLoad_30 (Or.inl rfl) ?_
    refine mx_if_eq (tgt := 37) dX8_grading_15 rfl (fun _ => ?_) (fun _ => absurd ‹_› (by decide))
    refine mx_aload_n dX8_grading_37 rfl rfl ?_
    refine mx_iconst dX8_grading_38 ic_2 ?_
    refine mx_callV 8 (y' := mi_X8_no) (vs := [iv (2 : Int32)]) (st := []) (al' := [some (rv a0), some (iv (2 : Int32))]) cl_8 V_X8_no (Or.inl q1963) dX8_grading_39 rfl rfl (Nat.le_of_ble_eq_true rfl) (Nat.le_of_ble_eq_true rfl) (ly8_k La0_h2) ?_
    refine mx_aload_n dX8_no_0 rfl rfl ?_
    refine mx_iload_n dX8_no_1 rfl rfl ?_
    refine mx_putI 8 0 (ref := "PrairiePoolModel") cl_8 (Nat.le_of_ble_eq_true rfl) (Or.inl q1627) (Or.inl rfl) dX8_no_2 (Or.inl rfl) rfl (ly8_k La0_h2) ?_
    refine mx_nmI  (fun h4 eh4 Xh4 Kh4 Lh4 => ?_)
    have H := H h4 eh4 Xh4
    have Kh4 := Kh4.trans Kh2
    have Lh4 := Lh4.trans Lh2
    have La0_h4 := La0_h2.ext Xh4
    refine mx_iconst dX8_no_5 ic_0 ?_
    refine mx_zretK rfl dX8_no_6 (Or.inl rfl) ?_
    exact mx_zret rfl dX8_grading_42 (Or.inl rfl) H
  · have H := H.2 c3
    refine mx_lload_n dX8_isIn_6 rfl rfl ?_
    refine mx_lload dX8_isIn_7 rfl ?_
    refine mx_lif_gt (tgt := 17) dX8_isIn_9 dX8_isIn_10 rfl (fun c5 => ?_) (fun c5 => ?_)
    · have H := H.1 c5
      refine mx_iconst dX8_isIn_17 ic_0 ?_
      refine mx_zretK rfl dX8_isIn_18 (Or.inl rfl) ?_
      refine mx_if_eq (tgt := 29) dX8_isLoad_13 rfl (fun _ => ?_) (fun _ => absurd ‹_› (by decide))
      refine mx_iconst dX8_isLoad_29 ic_0 ?_
      refine mx_zretK rfl dX8_isLoad_30 (Or.inl rfl) ?_
      refine mx_if_eq (tgt := 37) dX8_grading_15 rfl (fun _ => ?_) (fun _ => absurd ‹_› (by decide))
      refine mx_aload_n dX8_grading_37 rfl rfl ?_
      refine mx_iconst dX8_grading_38 ic_2 ?_
      refine mx_callV 8 (y' := mi_X8_no) (vs := [iv (2 : Int32)]) (st := []) (al' := [some (rv a0), some (iv (2 : Int32))]) cl_8 V_X8_no (Or.inl q1963) dX8_grading_39 rfl rfl (Nat.le_of_ble_eq_true rfl) (Nat.le_of_ble_eq_true rfl) (ly8_k La0_h2) ?_
      refine mx_aload_n dX8_no_0 rfl rfl ?_
      refine mx_iload_n dX8_no_1 rfl rfl ?_
      refine mx_putI 8 0 (ref := "PrairiePoolModel") cl_8 (Nat.le_of_ble_eq_true rfl) (Or.inl q1627) (Or.inl rfl) dX8_no_2 (Or.inl rfl) rfl (ly8_k La0_h2) ?_
      refine mx_nmI  (fun h6 eh6 Xh6 Kh6 Lh6 => ?_)
      have H := H h6 eh6 Xh6
      have Kh6 := Kh6.trans Kh2
      have Lh6 := Lh6.trans Lh2
      have La0_h6 := La0_h2.ext Xh6
      refine mx_iconst dX8_no_5 ic_0 ?_
      refine mx_zretK rfl dX8_no_6 (Or.inl rfl) ?_
      exact mx_zret rfl dX8_grading_42 (Or.inl rfl) H
    · have H := H.2 c5
      refine mx_iconst dX8_isIn_13 ic_1 ?_
      refine mx_goto (tgt := 18) dX8_isIn_14 rfl ?_
      refine mx_zretK rfl dX8_isIn_18 (Or.inr rfl) ?_
      refine mx_if_eq (tgt := 29) dX8_isLoad_13 rfl (fun _ => absurd ‹_› (by decide)) (fun _ => ?_)
      refine mx_aload_n dX8_isLoad_16 rfl rfl ?_
      refine mx_get 8 16 (ref := "PrairiePoolModel") cl_8 (Nat.le_of_ble_eq_true rfl) (Or.inl q1643) (Or.inl rfl) dX8_isLoad_17 (fv_8_16 _ _) (ly8_k La0_h2) ?_
      refine mx_tr (ly8_R_0_16 La0_h2) ?_
      refine mx_iload_n dX8_isLoad_20 rfl rfl ?_
      obtain ⟨k7, H⟩ := H
      refine my_iald dX8_isLoad_21 rfl (ly8_A_9 La0_h2 k7) ?_
      refine mx_ti ((ah_skIA eh2 (by omega)).trans (ah_skIA eh1 (by omega))) ?_
      refine mx_if_ne (tgt := 29) dX8_isLoad_22 rfl (fun c8 => ?_) (fun c8 => ?_)
      · have H := H.1 c8
        refine mx_iconst dX8_isLoad_29 ic_0 ?_
        refine mx_zretK rfl dX8_isLoad_30 (Or.inl rfl) ?_
        refine mx_if_eq (tgt := 37) dX8_grading_15 rfl (fun _ => ?_) (fun _ => absurd ‹_› (by decide))
        refine mx_aload_n dX8_grading_37 rfl rfl ?_
        refine mx_iconst dX8_grading_38 ic_2 ?_
        refine mx_callV 8 (y' := mi_X8_no) (vs := [iv (2 : Int32)]) (st := []) (al' := [some (rv a0), some (iv (2 : Int32))]) cl_8 V_X8_no (Or.inl q1963) dX8_grading_39 rfl rfl (Nat.le_of_ble_eq_true rfl) (Nat.le_of_ble_eq_true rfl) (ly8_k La0_h2) ?_
        refine mx_aload_n dX8_no_0 rfl rfl ?_
        refine mx_iload_n dX8_no_1 rfl rfl ?_
        refine mx_putI 8 0 (ref := "PrairiePoolModel") cl_8 (Nat.le_of_ble_eq_true rfl) (Or.inl q1627) (Or.inl rfl) dX8_no_2 (Or.inl rfl) rfl (ly8_k La0_h2) ?_
        refine mx_nmI  (fun h9 eh9 Xh9 Kh9 Lh9 => ?_)
        have H := H h9 eh9 Xh9
        have Kh9 := Kh9.trans Kh2
        have Lh9 := Lh9.trans Lh2
        have La0_h9 := La0_h2.ext Xh9
        refine mx_iconst dX8_no_5 ic_0 ?_
        refine mx_zretK rfl dX8_no_6 (Or.inl rfl) ?_
        exact mx_zret rfl dX8_grading_42 (Or.inl rfl) H
      · have H := H.2 c8
        refine mx_iconst dX8_isLoad_25 ic_1 ?_
        refine mx_goto (tgt := 30) dX8_isLoad_26 rfl ?_
        refine mx_zretK rfl dX8_isLoad_30 (Or.inr rfl) ?_
        refine mx_if_eq (tgt := 37) dX8_grading_15 rfl (fun _ => absurd ‹_› (by decide)) (fun _ => ?_)
        refine mx_iload_n dX8_grading_18 rfl rfl ?_
        refine mx_i2l dX8_grading_19 ?_
        refine mx_lconst dX8_grading_20 lc_0 ?_
        refine mx_ldc2 q1995 dX8_grading_21 ?_
        refine mx_callS (y' := mi_X8_isIn) (vs := [jv x2.toInt64, jv (0 : Int64), jv (5 : Int64)]) (st := []) (al' := [some (jv x2.toInt64), none, some (jv (0 : Int64)), none, some (jv (5 : Int64)), none]) S_X8_isIn q1996 dX8_grading_24 rfl rfl (Nat.le_of_ble_eq_true rfl) (Nat.le_of_ble_eq_true rfl) ?_
        refine mx_lload_n dX8_isIn_0 rfl rfl ?_
        refine mx_lload_n dX8_isIn_1 rfl rfl ?_
        refine mx_lif_lt (tgt := 17) dX8_isIn_2 dX8_isIn_3 rfl (fun c10 => ?_) (fun c10 => ?_)
        · have H := H.1 c10
          refine mx_iconst dX8_isIn_17 ic_0 ?_
          refine mx_zretK rfl dX8_isIn_18 (Or.inl rfl) ?_
          refine mx_if_eq (tgt := 37) dX8_grading_27 rfl (fun _ => ?_) (fun _ => absurd ‹_› (by decide))
          refine mx_aload_n dX8_grading_37 rfl rfl ?_
          refine mx_iconst dX8_grading_38 ic_2 ?_
          refine mx_callV 8 (y' := mi_X8_no) (vs := [iv (2 : Int32)]) (st := []) (al' := [some (rv a0), some (iv (2 : Int32))]) cl_8 V_X8_no (Or.inl q1963) dX8_grading_39 rfl rfl (Nat.le_of_ble_eq_true rfl) (Nat.le_of_ble_eq_true rfl) (ly8_k La0_h2) ?_
          refine mx_aload_n dX8_no_0 rfl rfl ?_
          refine mx_iload_n dX8_no_1 rfl rfl ?_
          refine mx_putI 8 0 (ref := "PrairiePoolModel") cl_8 (Nat.le_of_ble_eq_true rfl) (Or.inl q1627) (Or.inl rfl) dX8_no_2 (Or.inl rfl) rfl (ly8_k La0_h2) ?_
          refine mx_nmI  (fun h11 eh11 Xh11 Kh11 Lh11 => ?_)
          have H := H h11 eh11 Xh11
          have Kh11 := Kh11.trans Kh2
          have Lh11 := Lh11.trans Lh2
          have La0_h11 := La0_h2.ext Xh11
          refine mx_iconst dX8_no_5 ic_0 ?_
          refine mx_zretK rfl dX8_no_6 (Or.inl rfl) ?_
          exact mx_zret rfl dX8_grading_42 (Or.inl rfl) H
        · have H := H.2 c10
          refine mx_lload_n dX8_isIn_6 rfl rfl ?_
          refine mx_lload dX8_isIn_7 rfl ?_
          refine mx_lif_gt (tgt := 17) dX8_isIn_9 dX8_isIn_10 rfl (fun c12 => ?_) (fun c12 => ?_)
          · have H := H.1 c12
            refine mx_iconst dX8_isIn_17 ic_0 ?_
            refine mx_zretK rfl dX8_isIn_18 (Or.inl rfl) ?_
            refine mx_if_eq (tgt := 37) dX8_grading_27 rfl (fun _ => ?_) (fun _ => absurd ‹_› (by decide))
            refine mx_aload_n dX8_grading_37 rfl rfl ?_
            refine mx_iconst dX8_grading_38 ic_2 ?_
            refine mx_callV 8 (y' := mi_X8_no) (vs := [iv (2 : Int32)]) (st := []) (al' := [some (rv a0), some (iv (2 : Int32))]) cl_8 V_X8_no (Or.inl q1963) dX8_grading_39 rfl rfl (Nat.le_of_ble_eq_true rfl) (Nat.le_of_ble_eq_true rfl) (ly8_k La0_h2) ?_
            refine mx_aload_n dX8_no_0 rfl rfl ?_
            refine mx_iload_n dX8_no_1 rfl rfl ?_
            refine mx_putI 8 0 (ref := "PrairiePoolModel") cl_8 (Nat.le_of_ble_eq_true rfl) (Or.inl q1627) (Or.inl rfl) dX8_no_2 (Or.inl rfl) rfl (ly8_k La0_h2) ?_
            refine mx_nmI  (fun h13 eh13 Xh13 Kh13 Lh13 => ?_)
            have H := H h13 eh13 Xh13
            have Kh13 := Kh13.trans Kh2
            have Lh13 := Lh13.trans Lh2
            have La0_h13 := La0_h2.ext Xh13
            refine mx_iconst dX8_no_5 ic_0 ?_
            refine mx_zretK rfl dX8_no_6 (Or.inl rfl) ?_
            exact mx_zret rfl dX8_grading_42 (Or.inl rfl) H
          · have H := H.2 c12
            refine mx_iconst dX8_isIn_13 ic_1 ?_
            refine mx_goto (tgt := 18) dX8_isIn_14 rfl ?_
            refine mx_zretK rfl dX8_isIn_18 (Or.inr rfl) ?_
            refine mx_if_eq (tgt := 37) dX8_grading_27 rfl (fun _ => absurd ‹_› (by decide)) (fun _ => ?_)
            refine mx_iload_n dX8_grading_30 rfl rfl ?_
            refine mx_callS (y' := mi_X8_isGrade) (vs := [iv x3]) (st := []) (al' := [some (iv x3)]) S_X8_isGrade q2036 dX8_grading_31 rfl rfl (Nat.le_of_ble_eq_true rfl) (Nat.le_of_ble_eq_true rfl) ?_
            refine mx_iload_n dX8_isGrade_0 rfl rfl ?_
            refine mx_i2l dX8_isGrade_1 ?_
            refine mx_lconst dX8_isGrade_2 lc_0 ?_
            refine mx_ldc2 q1995 dX8_isGrade_3 ?_
            refine mx_callS (y' := mi_X8_isIn) (vs := [jv x3.toInt64, jv (0 : Int64), jv (5 : Int64)]) (st := []) (al' := [some (jv x3.toInt64), none, some (jv (0 : Int64)), none, some (jv (5 : Int64)), none]) S_X8_isIn q1996 dX8_isGrade_6 rfl rfl (Nat.le_of_ble_eq_true rfl) (Nat.le_of_ble_eq_true rfl) ?_
            refine mx_lload_n dX8_isIn_0 rfl rfl ?_
            refine mx_lload_n dX8_isIn_1 rfl rfl ?_
            refine mx_lif_lt (tgt := 17) dX8_isIn_2 dX8_isIn_3 rfl (fun c14 => ?_) (fun c14 => ?_)
            · have H := H.1 c14
              refine mx_iconst dX8_isIn_17 ic_0 ?_
              refine mx_zretK rfl dX8_isIn_18 (Or.inl rfl) ?_
              refine mx_zretK rfl dX8_isGrade_9 (Or.inl rfl) ?_
              refine mx_if_ne (tgt := 43) dX8_grading_34 rfl (fun _ => absurd ‹_› (by decide)) (fun _ => ?_)
              refine mx_aload_n dX8_grading_37 rfl rfl ?_
              refine mx_iconst dX8_grading_38 ic_2 ?_
              refine mx_callV 8 (y' := mi_X8_no) (vs := [iv (2 : Int32)]) (st := []) (al' := [some (rv a0), some (iv (2 : Int32))]) cl_8 V_X8_no (Or.inl q1963) dX8_grading_39 rfl rfl (Nat.le_of_ble_eq_true rfl) (Nat.le_of_ble_eq_true rfl) (ly8_k La0_h2) ?_
              refine mx_aload_n dX8_no_0 rfl rfl ?_
              refine mx_iload_n dX8_no_1 rfl rfl ?_
              refine mx_putI 8 0 (ref := "PrairiePoolModel") cl_8 (Nat.le_of_ble_eq_true rfl) (Or.inl q1627) (Or.inl rfl) dX8_no_2 (Or.inl rfl) rfl (ly8_k La0_h2) ?_
              refine mx_nmI  (fun h15 eh15 Xh15 Kh15 Lh15 => ?_)
              have H := H h15 eh15 Xh15
              have Kh15 := Kh15.trans Kh2
              have Lh15 := Lh15.trans Lh2
              have La0_h15 := La0_h2.ext Xh15
              refine mx_iconst dX8_no_5 ic_0 ?_
              refine mx_zretK rfl dX8_no_6 (Or.inl rfl) ?_
              exact mx_zret rfl dX8_grading_42 (Or.inl rfl) H
            · have H := H.2 c14
              refine mx_lload_n dX8_isIn_6 rfl rfl ?_
              refine mx_lload dX8_isIn_7 rfl ?_
              refine mx_lif_gt (tgt := 17) dX8_isIn_9 dX8_isIn_10 rfl (fun c16 => ?_) (fun c16 => ?_)
              · have H := H.1 c16
                refine mx_iconst dX8_isIn_17 ic_0 ?_
                refine mx_zretK rfl dX8_isIn_18 (Or.inl rfl) ?_
                refine mx_zretK rfl dX8_isGrade_9 (Or.inl rfl) ?_
                refine mx_if_ne (tgt := 43) dX8_grading_34 rfl (fun _ => absurd ‹_› (by decide)) (fun _ => ?_)
                refine mx_aload_n dX8_grading_37 rfl rfl ?_
                refine mx_iconst dX8_grading_38 ic_2 ?_
                refine mx_callV 8 (y' := mi_X8_no) (vs := [iv (2 : Int32)]) (st := []) (al' := [some (rv a0), some (iv (2 : Int32))]) cl_8 V_X8_no (Or.inl q1963) dX8_grading_39 rfl rfl (Nat.le_of_ble_eq_true rfl) (Nat.le_of_ble_eq_true rfl) (ly8_k La0_h2) ?_
                refine mx_aload_n dX8_no_0 rfl rfl ?_
                refine mx_iload_n dX8_no_1 rfl rfl ?_
                refine mx_putI 8 0 (ref := "PrairiePoolModel") cl_8 (Nat.le_of_ble_eq_true rfl) (Or.inl q1627) (Or.inl rfl) dX8_no_2 (Or.inl rfl) rfl (ly8_k La0_h2) ?_
                refine mx_nmI  (fun h17 eh17 Xh17 Kh17 Lh17 => ?_)
                have H := H h17 eh17 Xh17
                have Kh17 := Kh17.trans Kh2
                have Lh17 := Lh17.trans Lh2
                have La0_h17 := La0_h2.ext Xh17
                refine mx_iconst dX8_no_5 ic_0 ?_
                refine mx_zretK rfl dX8_no_6 (Or.inl rfl) ?_
                exact mx_zret rfl dX8_grading_42 (Or.inl rfl) H
              · have H := H.2 c16
                refine mx_iconst dX8_isIn_13 ic_1 ?_
                refine mx_goto (tgt := 18) dX8_isIn_14 rfl ?_
                refine mx_zretK rfl dX8_isIn_18 (Or.inr rfl) ?_
                refine mx_zretK rfl dX8_isGrade_9 (Or.inr rfl) ?_
                refine mx_if_ne (tgt := 43) dX8_grading_34 rfl (fun _ => ?_) (fun _ => absurd ‹_› (by decide))
                refine mx_iload dX8_grading_43 rfl ?_
                refine mx_callS (y' := mi_X8_isDay) (vs := [iv x4]) (st := []) (al' := [some (iv x4)]) S_X8_isDay q2028 dX8_grading_45 rfl rfl (Nat.le_of_ble_eq_true rfl) (Nat.le_of_ble_eq_true rfl) ?_
                refine mx_iload_n dX8_isDay_0 rfl rfl ?_
                refine mx_i2l dX8_isDay_1 ?_
                refine mx_lconst dX8_isDay_2 lc_0 ?_
                refine mx_ldc2 q2031 dX8_isDay_3 ?_
                refine mx_callS (y' := mi_X8_isIn) (vs := [jv x4.toInt64, jv (0 : Int64), jv (519 : Int64)]) (st := []) (al' := [some (jv x4.toInt64), none, some (jv (0 : Int64)), none, some (jv (519 : Int64)), none]) S_X8_isIn q1996 dX8_isDay_6 rfl rfl (Nat.le_of_ble_eq_true rfl) (Nat.le_of_ble_eq_true rfl) ?_
                refine mx_lload_n dX8_isIn_0 rfl rfl ?_
                refine mx_lload_n dX8_isIn_1 rfl rfl ?_
                refine mx_lif_lt (tgt := 17) dX8_isIn_2 dX8_isIn_3 rfl (fun c18 => ?_) (fun c18 => ?_)
                · have H := H.1 c18
                  refine mx_iconst dX8_isIn_17 ic_0 ?_
                  refine mx_zretK rfl dX8_isIn_18 (Or.inl rfl) ?_
                  refine mx_zretK rfl dX8_isDay_9 (Or.inl rfl) ?_
                  refine mx_if_ne (tgt := 57) dX8_grading_48 rfl (fun _ => absurd ‹_› (by decide)) (fun _ => ?_)
                  refine mx_aload_n dX8_grading_51 rfl rfl ?_
                  refine mx_iconst dX8_grading_52 ic_5 ?_
                  refine mx_callV 8 (y' := mi_X8_no) (vs := [iv (5 : Int32)]) (st := []) (al' := [some (rv a0), some (iv (5 : Int32))]) cl_8 V_X8_no (Or.inl q1963) dX8_grading_53 rfl rfl (Nat.le_of_ble_eq_true rfl) (Nat.le_of_ble_eq_true rfl) (ly8_k La0_h2) ?_
                  refine mx_aload_n dX8_no_0 rfl rfl ?_
                  refine mx_iload_n dX8_no_1 rfl rfl ?_
                  refine mx_putI 8 0 (ref := "PrairiePoolModel") cl_8 (Nat.le_of_ble_eq_true rfl) (Or.inl q1627) (Or.inl rfl) dX8_no_2 (Or.inl rfl) rfl (ly8_k La0_h2) ?_
                  refine mx_nmI  (fun h19 eh19 Xh19 Kh19 Lh19 => ?_)
                  have H := H h19 eh19 Xh19
                  have Kh19 := Kh19.trans Kh2
                  have Lh19 := Lh19.trans Lh2
                  have La0_h19 := La0_h2.ext Xh19
                  refine mx_iconst dX8_no_5 ic_0 ?_
                  refine mx_zretK rfl dX8_no_6 (Or.inl rfl) ?_
                  exact mx_zret rfl dX8_grading_56 (Or.inl rfl) H
                · have H := H.2 c18
                  refine mx_lload_n dX8_isIn_6 rfl rfl ?_
                  refine mx_lload dX8_isIn_7 rfl ?_
                  refine mx_lif_gt (tgt := 17) dX8_isIn_9 dX8_isIn_10 rfl (fun c20 => ?_) (fun c20 => ?_)
                  · have H := H.1 c20
                    refine mx_iconst dX8_isIn_17 ic_0 ?_
                    refine mx_zretK rfl dX8_isIn_18 (Or.inl rfl) ?_
                    refine mx_zretK rfl dX8_isDay_9 (Or.inl rfl) ?_
                    refine mx_if_ne (tgt := 57) dX8_grading_48 rfl (fun _ => absurd ‹_› (by decide)) (fun _ => ?_)
                    refine mx_aload_n dX8_grading_51 rfl rfl ?_
                    refine mx_iconst dX8_grading_52 ic_5 ?_
                    refine mx_callV 8 (y' := mi_X8_no) (vs := [iv (5 : Int32)]) (st := []) (al' := [some (rv a0), some (iv (5 : Int32))]) cl_8 V_X8_no (Or.inl q1963) dX8_grading_53 rfl rfl (Nat.le_of_ble_eq_true rfl) (Nat.le_of_ble_eq_true rfl) (ly8_k La0_h2) ?_
                    refine mx_aload_n dX8_no_0 rfl rfl ?_
                    refine mx_iload_n dX8_no_1 rfl rfl ?_
                    refine mx_putI 8 0 (ref := "PrairiePoolModel") cl_8 (Nat.le_of_ble_eq_true rfl) (Or.inl q1627) (Or.inl rfl) dX8_no_2 (Or.inl rfl) rfl (ly8_k La0_h2) ?_
                    refine mx_nmI  (fun h21 eh21 Xh21 Kh21 Lh21 => ?_)
                    have H := H h21 eh21 Xh21
                    have Kh21 := Kh21.trans Kh2
                    have Lh21 := Lh21.trans Lh2
                    have La0_h21 := La0_h2.ext Xh21
                    refine mx_iconst dX8_no_5 ic_0 ?_
                    refine mx_zretK rfl dX8_no_6 (Or.inl rfl) ?_
                    exact mx_zret rfl dX8_grading_56 (Or.inl rfl) H
                  · have H := H.2 c20
                    refine mx_iconst dX8_isIn_13 ic_1 ?_
                    refine mx_goto (tgt := 18) dX8_isIn_14 rfl ?_
                    refine mx_zretK rfl dX8_isIn_18 (Or.inr rfl) ?_
                    refine mx_zretK rfl dX8_isDay_9 (Or.inr rfl) ?_
                    refine mx_if_ne (tgt := 57) dX8_grading_48 rfl (fun _ => ?_) (fun _ => absurd ‹_› (by decide))
                    refine mx_aload_n dX8_grading_57 rfl rfl ?_
                    refine mx_get 8 8 (ref := "PrairiePoolModel") cl_8 (Nat.le_of_ble_eq_true rfl) (Or.inl q1635) (Or.inl rfl) dX8_grading_58 (fv_8_8 _ _) (ly8_k La0_h2) ?_
                    refine mx_ti ((ah_skIK eh2 (by decide)).trans (ah_skIK eh1 (by decide))) ?_
                    refine mx_bipush dX8_grading_61 ib_100 ?_
                    refine mx_icmp_ne (tgt := 73) dX8_grading_63 rfl (fun c22 => ?_) (fun c22 => ?_)
                    · have H := H.1 c22
                      refine mx_iload dX8_grading_73 rfl ?_
                      refine mx_aload_n dX8_grading_75 rfl rfl ?_
                      refine mx_get 8 9 (ref := "PrairiePoolModel") cl_8 (Nat.le_of_ble_eq_true rfl) (Or.inl q1636) (Or.inl rfl) dX8_grading_76 (fv_8_9 _ _) (ly8_k La0_h2) ?_
                      refine mx_ti ((ah_skIK eh2 (by decide)).trans (ah_skIK eh1 (by decide))) ?_
                      refine mx_icmp_ge (tgt := 89) dX8_grading_79 rfl (fun c23 => ?_) (fun c23 => ?_)
                      · have H := H.1 c23
                        refine mx_aload_n dX8_grading_89 rfl rfl ?_
                        refine mx_get 8 26 (ref := "PrairiePoolModel") cl_8 (Nat.le_of_ble_eq_true rfl) (Or.inl q1653) (Or.inl rfl) dX8_grading_90 (fv_8_26 _ _) (ly8_k La0_h2) ?_
                        refine mx_tr (ly8_R_0_26 La0_h2) ?_
                        refine mx_aload_n dX8_grading_93 rfl rfl ?_
                        refine mx_get 8 8 (ref := "PrairiePoolModel") cl_8 (Nat.le_of_ble_eq_true rfl) (Or.inl q1635) (Or.inl rfl) dX8_grading_94 (fv_8_8 _ _) (ly8_k La0_h2) ?_
                        refine mx_ti ((ah_skIK eh2 (by decide)).trans (ah_skIK eh1 (by decide))) ?_
                        refine mx_iload_n dX8_grading_97 rfl rfl ?_
                        obtain ⟨k24, H⟩ := H
                        refine my_iast dX8_grading_98 rfl (ly8_A_19 La0_h2 k24) ?_
                        refine mx_nmI  (fun h25 eh25 Xh25 Kh25 Lh25 => ?_)
                        have H := H h25 eh25 Xh25
                        have Kh25 := Kh25.trans Kh2
                        have Lh25 := Lh25.trans Lh2
                        have La0_h25 := La0_h2.ext Xh25
                        refine mx_aload_n dX8_grading_99 rfl rfl ?_
                        refine mx_get 8 27 (ref := "PrairiePoolModel") cl_8 (Nat.le_of_ble_eq_true rfl) (Or.inl q1654) (Or.inl rfl) dX8_grading_100 (fv_8_27 _ _) (ly8_k La0_h25) ?_
                        refine mx_tr (ly8_R_0_27 La0_h25) ?_
                        refine mx_aload_n dX8_grading_103 rfl rfl ?_
                        refine mx_get 8 8 (ref := "PrairiePoolModel") cl_8 (Nat.le_of_ble_eq_true rfl) (Or.inl q1635) (Or.inl rfl) dX8_grading_104 (fv_8_8 _ _) (ly8_k La0_h25) ?_
                        refine mx_ti (((ah_skIA eh25 (by omega)).trans (ah_skIK eh2 (by decide))).trans (ah_skIK eh1 (by decide))) ?_
                        refine mx_iload_n dX8_grading_107 rfl rfl ?_
                        refine my_iast dX8_grading_108 rfl (ly8_A_20 La0_h25 k24) ?_
                        refine mx_nmI  (fun h26 eh26 Xh26 Kh26 Lh26 => ?_)
                        have H := H h26 eh26 Xh26
                        have Kh26 := Kh26.trans Kh25
                        have Lh26 := Lh26.trans Lh25
                        have La0_h26 := La0_h25.ext Xh26
                        refine mx_aload_n dX8_grading_109 rfl rfl ?_
                        refine mx_get 8 28 (ref := "PrairiePoolModel") cl_8 (Nat.le_of_ble_eq_true rfl) (Or.inl q1655) (Or.inl rfl) dX8_grading_110 (fv_8_28 _ _) (ly8_k La0_h26) ?_
                        refine mx_tr (ly8_R_0_28 La0_h26) ?_
                        refine mx_aload_n dX8_grading_113 rfl rfl ?_
                        refine mx_get 8 8 (ref := "PrairiePoolModel") cl_8 (Nat.le_of_ble_eq_true rfl) (Or.inl q1635) (Or.inl rfl) dX8_grading_114 (fv_8_8 _ _) (ly8_k La0_h26) ?_
                        refine mx_ti ((((ah_skIA eh26 (by omega)).trans (ah_skIA eh25 (by omega))).trans (ah_skIK eh2 (by decide))).trans (ah_skIK eh1 (by decide))) ?_
                        refine mx_iload_n dX8_grading_117 rfl rfl ?_
                        refine my_iast dX8_grading_118 rfl (ly8_A_21 La0_h26 k24) ?_
                        refine mx_nmI  (fun h27 eh27 Xh27 Kh27 Lh27 => ?_)
                        have H := H h27 eh27 Xh27
                        have Kh27 := Kh27.trans Kh26
                        have Lh27 := Lh27.trans Lh26
                        have La0_h27 := La0_h26.ext Xh27
                        refine mx_aload_n dX8_grading_119 rfl rfl ?_
                        refine mx_get 8 29 (ref := "PrairiePoolModel") cl_8 (Nat.le_of_ble_eq_true rfl) (Or.inl q1656) (Or.inl rfl) dX8_grading_120 (fv_8_29 _ _) (ly8_k La0_h27) ?_
                        refine mx_tr (ly8_R_0_29 La0_h27) ?_
                        refine mx_aload_n dX8_grading_123 rfl rfl ?_
                        refine mx_get 8 8 (ref := "PrairiePoolModel") cl_8 (Nat.le_of_ble_eq_true rfl) (Or.inl q1635) (Or.inl rfl) dX8_grading_124 (fv_8_8 _ _) (ly8_k La0_h27) ?_
                        refine mx_ti (((((ah_skIA eh27 (by omega)).trans (ah_skIA eh26 (by omega))).trans (ah_skIA eh25 (by omega))).trans (ah_skIK eh2 (by decide))).trans (ah_skIK eh1 (by decide))) ?_
                        refine mx_iload dX8_grading_127 rfl ?_
                        refine my_iast dX8_grading_129 rfl (ly8_A_22 La0_h27 k24) ?_
                        refine mx_nmI  (fun h28 eh28 Xh28 Kh28 Lh28 => ?_)
                        have H := H h28 eh28 Xh28
                        have Kh28 := Kh28.trans Kh27
                        have Lh28 := Lh28.trans Lh27
                        have La0_h28 := La0_h27.ext Xh28
                        refine mx_aload_n dX8_grading_130 rfl rfl ?_
                        refine mx_dup_r dX8_grading_131 ?_
                        refine mx_get 8 8 (ref := "PrairiePoolModel") cl_8 (Nat.le_of_ble_eq_true rfl) (Or.inl q1635) (Or.inl rfl) dX8_grading_132 (fv_8_8 _ _) (ly8_k La0_h28) ?_
                        refine mx_ti ((((((ah_skIA eh28 (by omega)).trans (ah_skIA eh27 (by omega))).trans (ah_skIA eh26 (by omega))).trans (ah_skIA eh25 (by omega))).trans (ah_skIK eh2 (by decide))).trans (ah_skIK eh1 (by decide))) ?_
                        refine mx_iconst dX8_grading_135 ic_1 ?_
                        refine mx_iadd dX8_grading_136 ?_
                        refine mx_putI 8 8 (ref := "PrairiePoolModel") cl_8 (Nat.le_of_ble_eq_true rfl) (Or.inl q1635) (Or.inl rfl) dX8_grading_137 (Or.inl rfl) rfl (ly8_k La0_h28) ?_
                        refine mx_nmI  (fun h29 eh29 Xh29 Kh29 Lh29 => ?_)
                        have H := H h29 eh29 Xh29
                        have Kh29 := Kh29.trans Kh28
                        have Lh29 := Lh29.trans Lh28
                        have La0_h29 := La0_h28.ext Xh29
                        refine mx_aload_n dX8_grading_140 rfl rfl ?_
                        refine mx_iload dX8_grading_141 rfl ?_
                        refine mx_putI 8 9 (ref := "PrairiePoolModel") cl_8 (Nat.le_of_ble_eq_true rfl) (Or.inl q1636) (Or.inl rfl) dX8_grading_143 (Or.inl rfl) rfl (ly8_k La0_h29) ?_
                        refine mx_nmI  (fun h30 eh30 Xh30 Kh30 Lh30 => ?_)
                        have H := H h30 eh30 Xh30
                        have Kh30 := Kh30.trans Kh29
                        have Lh30 := Lh30.trans Lh29
                        have La0_h30 := La0_h29.ext Xh30
                        refine mx_iconst dX8_grading_146 ic_1 ?_
                        exact mx_zret rfl dX8_grading_147 (Or.inr rfl) H
                      · have H := H.2 c23
                        refine mx_aload_n dX8_grading_82 rfl rfl ?_
                        refine mx_bipush dX8_grading_83 ib_12 ?_
                        refine mx_callV 8 (y' := mi_X8_no) (vs := [iv (12 : Int32)]) (st := []) (al' := [some (rv a0), some (iv (12 : Int32))]) cl_8 V_X8_no (Or.inl q1963) dX8_grading_85 rfl rfl (Nat.le_of_ble_eq_true rfl) (Nat.le_of_ble_eq_true rfl) (ly8_k La0_h2) ?_
                        refine mx_aload_n dX8_no_0 rfl rfl ?_
                        refine mx_iload_n dX8_no_1 rfl rfl ?_
                        refine mx_putI 8 0 (ref := "PrairiePoolModel") cl_8 (Nat.le_of_ble_eq_true rfl) (Or.inl q1627) (Or.inl rfl) dX8_no_2 (Or.inl rfl) rfl (ly8_k La0_h2) ?_
                        refine mx_nmI  (fun h31 eh31 Xh31 Kh31 Lh31 => ?_)
                        have H := H h31 eh31 Xh31
                        have Kh31 := Kh31.trans Kh2
                        have Lh31 := Lh31.trans Lh2
                        have La0_h31 := La0_h2.ext Xh31
                        refine mx_iconst dX8_no_5 ic_0 ?_
                        refine mx_zretK rfl dX8_no_6 (Or.inl rfl) ?_
                        exact mx_zret rfl dX8_grading_88 (Or.inl rfl) H
                    · have H := H.2 c22
                      refine mx_aload_n dX8_grading_66 rfl rfl ?_
                      refine mx_bipush dX8_grading_67 ib_7 ?_
                      refine mx_callV 8 (y' := mi_X8_no) (vs := [iv (7 : Int32)]) (st := []) (al' := [some (rv a0), some (iv (7 : Int32))]) cl_8 V_X8_no (Or.inl q1963) dX8_grading_69 rfl rfl (Nat.le_of_ble_eq_true rfl) (Nat.le_of_ble_eq_true rfl) (ly8_k La0_h2) ?_
                      refine mx_aload_n dX8_no_0 rfl rfl ?_
                      refine mx_iload_n dX8_no_1 rfl rfl ?_
                      refine mx_putI 8 0 (ref := "PrairiePoolModel") cl_8 (Nat.le_of_ble_eq_true rfl) (Or.inl q1627) (Or.inl rfl) dX8_no_2 (Or.inl rfl) rfl (ly8_k La0_h2) ?_
                      refine mx_nmI  (fun h32 eh32 Xh32 Kh32 Lh32 => ?_)
                      have H := H h32 eh32 Xh32
                      have Kh32 := Kh32.trans Kh2
                      have Lh32 := Lh32.trans Lh2
                      have La0_h32 := La0_h2.ext Xh32
                      refine mx_iconst dX8_no_5 ic_0 ?_
                      refine mx_zretK rfl dX8_no_6 (Or.inl rfl) ?_
                      exact mx_zret rfl dX8_grading_72 (Or.inl rfl) H
theorem v_X8_isLoad {G : ma_G} {d : Nat} {a0 : Nat} {x1 : Int32} {h : ah_T} {Q : Option ma_V → ah_T → Prop} {E : Nat → ah_T → Prop} (La0_h : LY8 h a0) (H : (x1.toInt64 < (0 : Int64) → Q (some (iv (0 : Int32))) h) ∧ (¬ x1.toInt64 < (0 : Int64) → (((ah_I h a0 7) - (1 : Int32)).toInt64 < x1.toInt64 → Q (some (iv (0 : Int32))) h) ∧ (¬ ((ah_I h a0 7) - (1 : Int32)).toInt64 < x1.toInt64 → vp_in x1 120 ∧ (¬ (ah_I h (a0 + 9) x1.toNatClampNeg) = 0 → Q (some (iv (0 : Int32))) h) ∧ ((ah_I h (a0 + 9) x1.toNatClampNeg) = 0 → Q (some (iv (1 : Int32))) h)))) : MX G mi_X8_isLoad (d + 1) 0 [some (rv a0), some (iv x1)] [] h Q E := by
  refine mx_iload_n dX8_isLoad_0 rfl rfl ?_
  refine mx_i2l dX8_isLoad_1 ?_
  refine mx_lconst dX8_isLoad_2 lc_0 ?_
  refine mx_aload_n dX8_isLoad_3 rfl rfl ?_
  refine mx_get 8 7 (ref := "PrairiePoolModel") cl_8 (Nat.le_of_ble_eq_true rfl) (Or.inl q1634) (Or.inl rfl) dX8_isLoad_4 (fv_8_7 _ _) (ly8_k La0_h) ?_
  refine mx_iconst dX8_isLoad_7 ic_1 ?_
  refine mx_isub dX8_isLoad_8 ?_
  refine mx_i2l dX8_isLoad_9 ?_
  refine mx_callS (y' := mi_X8_isIn) (vs := [jv x1.toInt64, jv (0 : Int64), jv ((ah_I h a0 7) - (1 : Int32)).toInt64]) (st := []) (al' := [some (jv x1.toInt64), none, some (jv (0 : Int64)), none, some (jv ((ah_I h a0 7) - (1 : Int32)).toInt64), none]) S_X8_isIn q1996 dX8_isLoad_10 rfl rfl (Nat.le_of_ble_eq_true rfl) (Nat.le_of_ble_eq_true rfl) ?_
  refine mx_lload_n dX8_isIn_0 rfl rfl ?_
  refine mx_lload_n dX8_isIn_1 rfl rfl ?_
  refine mx_lif_lt (tgt := 17) dX8_isIn_2 dX8_isIn_3 rfl (fun c1 => ?_) (fun c1 => ?_)
  · have H := H.1 c1
    refine mx_iconst dX8_isIn_17 ic_0 ?_
    refine mx_zretK rfl dX8_isIn_18 (Or.inl rfl) ?_
    refine mx_if_eq (tgt := 29) dX8_isLoad_13 rfl (fun _ => ?_) (fun _ => absurd ‹_› (by decide))
    refine mx_iconst dX8_isLoad_29 ic_0 ?_
    exact mx_zret rfl dX8_isLoad_30 (Or.inl rfl) H
  · have H := H.2 c1
    refine mx_lload_n dX8_isIn_6 rfl rfl ?_
    refine mx_lload dX8_isIn_7 rfl ?_
    refine mx_lif_gt (tgt := 17) dX8_isIn_9 dX8_isIn_10 rfl (fun c2 => ?_) (fun c2 => ?_)
    · have H := H.1 c2
      refine mx_iconst dX8_isIn_17 ic_0 ?_
      refine mx_zretK rfl dX8_isIn_18 (Or.inl rfl) ?_
      refine mx_if_eq (tgt := 29) dX8_isLoad_13 rfl (fun _ => ?_) (fun _ => absurd ‹_› (by decide))
      refine mx_iconst dX8_isLoad_29 ic_0 ?_
      exact mx_zret rfl dX8_isLoad_30 (Or.inl rfl) H
    · have H := H.2 c2
      refine mx_iconst dX8_isIn_13 ic_1 ?_
      refine mx_goto (tgt := 18) dX8_isIn_14 rfl ?_
      refine mx_zretK rfl dX8_isIn_18 (Or.inr rfl) ?_
      refine mx_if_eq (tgt := 29) dX8_isLoad_13 rfl (fun _ => absurd ‹_› (by decide)) (fun _ => ?_)
      refine mx_aload_n dX8_isLoad_16 rfl rfl ?_
      refine mx_get 8 16 (ref := "PrairiePoolModel") cl_8 (Nat.le_of_ble_eq_true rfl) (Or.inl q1643) (Or.inl rfl) dX8_isLoad_17 (fv_8_16 _ _) (ly8_k La0_h) ?_
      refine mx_tr (ly8_R_0_16 La0_h) ?_
      refine mx_iload_n dX8_isLoad_20 rfl rfl ?_
      obtain ⟨k3, H⟩ := H
      refine my_iald dX8_isLoad_21 rfl (ly8_A_9 La0_h k3) ?_
      refine mx_if_ne (tgt := 29) dX8_isLoad_22 rfl (fun c4 => ?_) (fun c4 => ?_)
      · have H := H.1 c4
        refine mx_iconst dX8_isLoad_29 ic_0 ?_
        exact mx_zret rfl dX8_isLoad_30 (Or.inl rfl) H
      · have H := H.2 c4
        refine mx_iconst dX8_isLoad_25 ic_1 ?_
        refine mx_goto (tgt := 30) dX8_isLoad_26 rfl ?_
        exact mx_zret rfl dX8_isLoad_30 (Or.inr rfl) H
theorem dX8_grade_0 : decode mi_X8_grade.2.1 0 = .ok (.aload_n 0, 1) := by decide +kernel
theorem dX8_grade_1 : decode mi_X8_grade.2.1 1 = .ok (.iconst 0, 1) := by decide +kernel
theorem dX8_grade_2 : decode mi_X8_grade.2.1 2 = .ok (.putfield 257, 3) := by decide +kernel
theorem dX8_grade_5 : decode mi_X8_grade.2.1 5 = .ok (.aload_n 0, 1) := by decide +kernel
theorem dX8_grade_6 : decode mi_X8_grade.2.1 6 = .ok (.iconst 0, 1) := by decide +kernel
theorem dX8_grade_7 : decode mi_X8_grade.2.1 7 = .ok (.putfield 260, 3) := by decide +kernel
theorem dX8_grade_10 : decode mi_X8_grade.2.1 10 = .ok (.aload_n 0, 1) := by decide +kernel
theorem dX8_grade_11 : decode mi_X8_grade.2.1 11 = .ok (.iload_n 1, 1) := by decide +kernel
theorem dX8_grade_12 : decode mi_X8_grade.2.1 12 = .ok (.invokevirtual 338, 3) := by decide +kernel
theorem dX8_grade_15 : decode mi_X8_grade.2.1 15 = .ok (.ifCond .ne 9, 3) := by decide +kernel
theorem dX8_grade_18 : decode mi_X8_grade.2.1 18 = .ok (.aload_n 0, 1) := by decide +kernel
theorem dX8_grade_19 : decode mi_X8_grade.2.1 19 = .ok (.iconst 2, 1) := by decide +kernel
theorem dX8_grade_20 : decode mi_X8_grade.2.1 20 = .ok (.invokevirtual 297, 3) := by decide +kernel
theorem dX8_grade_23 : decode mi_X8_grade.2.1 23 = .ok (.ireturn, 1) := by decide +kernel
theorem dX8_grade_24 : decode mi_X8_grade.2.1 24 = .ok (.iload_n 2, 1) := by decide +kernel
theorem dX8_grade_25 : decode mi_X8_grade.2.1 25 = .ok (.invokestatic 306, 3) := by decide +kernel
theorem dX8_grade_28 : decode mi_X8_grade.2.1 28 = .ok (.ifCond .ne 9, 3) := by decide +kernel
theorem dX8_grade_31 : decode mi_X8_grade.2.1 31 = .ok (.aload_n 0, 1) := by decide +kernel
theorem dX8_grade_32 : decode mi_X8_grade.2.1 32 = .ok (.iconst 5, 1) := by decide +kernel
theorem dX8_grade_33 : decode mi_X8_grade.2.1 33 = .ok (.invokevirtual 297, 3) := by decide +kernel
theorem dX8_grade_36 : decode mi_X8_grade.2.1 36 = .ok (.ireturn, 1) := by decide +kernel
theorem dX8_grade_37 : decode mi_X8_grade.2.1 37 = .ok (.aload_n 0, 1) := by decide +kernel
theorem dX8_grade_38 : decode mi_X8_grade.2.1 38 = .ok (.getfield 62, 3) := by decide +kernel
theorem dX8_grade_41 : decode mi_X8_grade.2.1 41 = .ok (.iload_n 1, 1) := by decide +kernel
theorem dX8_grade_42 : decode mi_X8_grade.2.1 42 = .ok (.iaload, 1) := by decide +kernel
theorem dX8_grade_43 : decode mi_X8_grade.2.1 43 = .ok (.iload_n 2, 1) := by decide +kernel
theorem dX8_grade_44 : decode mi_X8_grade.2.1 44 = .ok (.if_icmp .le 12, 3) := by decide +kernel
theorem dX8_grade_47 : decode mi_X8_grade.2.1 47 = .ok (.aload_n 0, 1) := by decide +kernel
theorem dX8_grade_48 : decode mi_X8_grade.2.1 48 = .ok (.bipush 8, 2) := by decide +kernel
theorem dX8_grade_50 : decode mi_X8_grade.2.1 50 = .ok (.invokevirtual 297, 3) := by decide +kernel
theorem dX8_grade_53 : decode mi_X8_grade.2.1 53 = .ok (.goto 9, 3) := by decide +kernel
theorem dX8_grade_56 : decode mi_X8_grade.2.1 56 = .ok (.aload_n 0, 1) := by decide +kernel
theorem dX8_grade_57 : decode mi_X8_grade.2.1 57 = .ok (.iload_n 1, 1) := by decide +kernel
theorem dX8_grade_58 : decode mi_X8_grade.2.1 58 = .ok (.iload_n 2, 1) := by decide +kernel
theorem dX8_grade_59 : decode mi_X8_grade.2.1 59 = .ok (.invokevirtual 363, 3) := by decide +kernel
theorem dX8_grade_62 : decode mi_X8_grade.2.1 62 = .ok (.ireturn, 1) := by decide +kernel
theorem v_X8_grade {G : ma_G} {d : Nat} {a0 : Nat} {x1 : Int32} {x2 : Int32} {h : ah_T} {Q : Option ma_V → ah_T → Prop} {E : Nat → ah_T → Prop} (La0_h : LY8 h a0) (H : ∀ h1 : ah_T, h1 = ah_wI h a0 1 (0 : Int32) → ah_ext h h1 → ∀ h2 : ah_T, h2 = ah_wI h1 a0 0 (0 : Int32) → ah_ext h1 h2 → (x1.toInt64 < (0 : Int64) → ∀ h4 : ah_T, h4 = ah_wI h2 a0 0 (2 : Int32) → ah_ext h2 h4 → Q (some (iv (-1 : Int32))) h4) ∧ (¬ x1.toInt64 < (0 : Int64) → (((ah_I h a0 7) - (1 : Int32)).toInt64 < x1.toInt64 → ∀ h6 : ah_T, h6 = ah_wI h2 a0 0 (2 : Int32) → ah_ext h2 h6 → Q (some (iv (-1 : Int32))) h6) ∧ (¬ ((ah_I h a0 7) - (1 : Int32)).toInt64 < x1.toInt64 → vp_in x1 120 ∧ (¬ (ah_I h (a0 + 9) x1.toNatClampNeg) = 0 → ∀ h9 : ah_T, h9 = ah_wI h2 a0 0 (2 : Int32) → ah_ext h2 h9 → Q (some (iv (-1 : Int32))) h9) ∧ ((ah_I h (a0 + 9) x1.toNatClampNeg) = 0 → (x2.toInt64 < (0 : Int64) → ∀ h11 : ah_T, h11 = ah_wI h2 a0 0 (5 : Int32) → ah_ext h2 h11 → Q (some (iv (-1 : Int32))) h11) ∧ (¬ x2.toInt64 < (0 : Int64) → ((519 : Int64) < x2.toInt64 → ∀ h13 : ah_T, h13 = ah_wI h2 a0 0 (5 : Int32) → ah_ext h2 h13 → Q (some (iv (-1 : Int32))) h13) ∧ (¬ (519 : Int64) < x2.toInt64 → ((ah_I h (a0 + 18) x1.toNatClampNeg) ≤ x2 → MX G mi_X8_gradeOf (d + 1) 0 [some (rv a0), some (iv x1), some (iv x2), none, none, none, none, none, none, none] [] h2 (Qi fun r16 h15 => ah_ext h2 h15 → Q (some (iv r16)) h15) E) ∧ (¬ (ah_I h (a0 + 18) x1.toNatClampNeg) ≤ x2 → ∀ h17 : ah_T, h17 = ah_wI h2 a0 0 (8 : Int32) → ah_ext h2 h17 → Q (some (iv (-1 : Int32))) h17))))))) : MX G mi_X8_grade (d + 2) 0 [some (rv a0), some (iv x1), some (iv x2)] [] h Q E := by
  refine mx_aload_n dX8_grade_0 rfl rfl ?_
  refine mx_iconst dX8_grade_1 ic_0 ?_
  refine mx_putI 8 1 (ref := "PrairiePoolModel") cl_8 (Nat.le_of_ble_eq_true rfl) (Or.inl q1628) (Or.inl rfl) dX8_grade_2 (Or.inl rfl) rfl (ly8_k La0_h) ?_
  refine mx_nmI  (fun h1 eh1 Xh1 Kh1 Lh1 => ?_)
  have H := H h1 eh1 Xh1
  have La0_h1 := La0_h.ext Xh1
  refine mx_aload_n dX8_grade_5 rfl rfl ?_
  refine mx_iconst dX8_grade_6 ic_0 ?_
  refine mx_putI 8 0 (ref := "PrairiePoolModel") cl_8 (Nat.le_of_ble_eq_true rfl) (Or.inl q1627) (Or.inl rfl) dX8_grade_7 (Or.inl rfl) rfl (ly8_k La0_h1) ?_
  refine mx_nmI  (fun h2 eh2 Xh2 Kh2 Lh2 => ?_)
  have H := H h2 eh2 Xh2
  have Kh2 := Kh2.trans Kh1
  have Lh2 := Lh2.trans Lh1
  have La0_h2 := La0_h1.ext Xh2
  refine mx_aload_n dX8_grade_10 rfl rfl ?_
  refine mx_iload_n dX8_grade_11 rfl rfl ?_
  refine mx_callV 8 (y' := mi_X8_isLoad) (vs := [iv x1]) (st := []) (al' := [some (rv a0), some (iv x1)]) cl_8 V_X8_isLoad (Or.inl q2055) dX8_grade_12 rfl rfl (Nat.le_of_ble_eq_true rfl) (Nat.le_of_ble_eq_true rfl) (ly8_k La0_h2) ?_
  refine mx_iload_n dX8_isLoad_0 rfl rfl ?_
  refine mx_i2l dX8_isLoad_1 ?_
  refine mx_lconst dX8_isLoad_2 lc_0 ?_
  refine mx_aload_n dX8_isLoad_3 rfl rfl ?_
  refine mx_get 8 7 (ref := "PrairiePoolModel") cl_8 (Nat.le_of_ble_eq_true rfl) (Or.inl q1634) (Or.inl rfl) dX8_isLoad_4 (fv_8_7 _ _) (ly8_k La0_h2) ?_
  refine mx_ti ((ah_skIK eh2 (by decide)).trans (ah_skIK eh1 (by decide))) ?_
  refine mx_iconst dX8_isLoad_7 ic_1 ?_
  refine mx_isub dX8_isLoad_8 ?_
  refine mx_i2l dX8_isLoad_9 ?_
  refine mx_callS (y' := mi_X8_isIn) (vs := [jv x1.toInt64, jv (0 : Int64), jv ((ah_I h a0 7) - (1 : Int32)).toInt64]) (st := []) (al' := [some (jv x1.toInt64), none, some (jv (0 : Int64)), none, some (jv ((ah_I h a0 7) - (1 : Int32)).toInt64), none]) S_X8_isIn q1996 dX8_isLoad_10 rfl rfl (Nat.le_of_ble_eq_true rfl) (Nat.le_of_ble_eq_true rfl) ?_
  refine mx_lload_n dX8_isIn_0 rfl rfl ?_
  refine mx_lload_n dX8_isIn_1 rfl rfl ?_
  refine mx_lif_lt (tgt := 17) dX8_isIn_2 dX8_isIn_3 rfl (fun c3 => ?_) (fun c3 => ?_)
  · have H := H.1 c3
    refine mx_iconst dX8_isIn_17 ic_0 ?_
    refine mx_zretK rfl dX8_isIn_18 (Or.inl rfl) ?_
    refine mx_if_eq (tgt := 29) dX8_isLoad_13 rfl (fun _ => ?_) (fun _ => absurd ‹_› (by decide))
    refine mx_iconst dX8_isLoad_29 ic_0 ?_
    refine mx_zretK rfl dX8_isLoad_30 (Or.inl rfl) ?_
    refine mx_if_ne (tgt := 24) dX8_grade_15 rfl (fun _ => absurd ‹_› (by decide)) (fun _ => ?_)
    refine mx_aload_n dX8_grade_18 rfl rfl ?_
    refine mx_iconst dX8_grade_19 ic_2 ?_
    refine mx_callV 8 (y' := mi_X8_refuse) (vs := [iv (2 : Int32)]) (st := []) (al' := [some (rv a0), some (iv (2 : Int32))]) cl_8 V_X8_refuse (Or.inl q1999) dX8_grade_20 rfl rfl (Nat.le_of_ble_eq_true rfl) (Nat.le_of_ble_eq_true rfl) (ly8_k La0_h2) ?_
    refine mx_aload_n dX8_refuse_0 rfl rfl ?_
    refine mx_iload_n dX8_refuse_1 rfl rfl ?_
    refine mx_putI 8 0 (ref := "PrairiePoolModel") cl_8 (Nat.le_of_ble_eq_true rfl) (Or.inl q1627) (Or.inl rfl) dX8_refuse_2 (Or.inl rfl) rfl (ly8_k La0_h2) ?_
    refine mx_nmI  (fun h4 eh4 Xh4 Kh4 Lh4 => ?_)
    have H := H h4 eh4 Xh4
    have Kh4 := Kh4.trans Kh2
    have Lh4 := Lh4.trans Lh2
    have La0_h4 := La0_h2.ext Xh4
    refine mx_iconst dX8_refuse_5 ic_m1 ?_
    refine mx_iretK rfl dX8_refuse_6 ?_
    exact mx_iret rfl dX8_grade_23 H
  · have H := H.2 c3
    refine mx_lload_n dX8_isIn_6 rfl rfl ?_
    refine mx_lload dX8_isIn_7 rfl ?_
    refine mx_lif_gt (tgt := 17) dX8_isIn_9 dX8_isIn_10 rfl (fun c5 => ?_) (fun c5 => ?_)
    · have H := H.1 c5
      refine mx_iconst dX8_isIn_17 ic_0 ?_
      refine mx_zretK rfl dX8_isIn_18 (Or.inl rfl) ?_
      refine mx_if_eq (tgt := 29) dX8_isLoad_13 rfl (fun _ => ?_) (fun _ => absurd ‹_› (by decide))
      refine mx_iconst dX8_isLoad_29 ic_0 ?_
      refine mx_zretK rfl dX8_isLoad_30 (Or.inl rfl) ?_
      refine mx_if_ne (tgt := 24) dX8_grade_15 rfl (fun _ => absurd ‹_› (by decide)) (fun _ => ?_)
      refine mx_aload_n dX8_grade_18 rfl rfl ?_
      refine mx_iconst dX8_grade_19 ic_2 ?_
      refine mx_callV 8 (y' := mi_X8_refuse) (vs := [iv (2 : Int32)]) (st := []) (al' := [some (rv a0), some (iv (2 : Int32))]) cl_8 V_X8_refuse (Or.inl q1999) dX8_grade_20 rfl rfl (Nat.le_of_ble_eq_true rfl) (Nat.le_of_ble_eq_true rfl) (ly8_k La0_h2) ?_
      refine mx_aload_n dX8_refuse_0 rfl rfl ?_
      refine mx_iload_n dX8_refuse_1 rfl rfl ?_
      refine mx_putI 8 0 (ref := "PrairiePoolModel") cl_8 (Nat.le_of_ble_eq_true rfl) (Or.inl q1627) (Or.inl rfl) dX8_refuse_2 (Or.inl rfl) rfl (ly8_k La0_h2) ?_
      refine mx_nmI  (fun h6 eh6 Xh6 Kh6 Lh6 => ?_)
      have H := H h6 eh6 Xh6
      have Kh6 := Kh6.trans Kh2
      have Lh6 := Lh6.trans Lh2
      have La0_h6 := La0_h2.ext Xh6
      refine mx_iconst dX8_refuse_5 ic_m1 ?_
      refine mx_iretK rfl dX8_refuse_6 ?_
      exact mx_iret rfl dX8_grade_23 H
    · have H := H.2 c5
      refine mx_iconst dX8_isIn_13 ic_1 ?_
      refine mx_goto (tgt := 18) dX8_isIn_14 rfl ?_
      refine mx_zretK rfl dX8_isIn_18 (Or.inr rfl) ?_
      refine mx_if_eq (tgt := 29) dX8_isLoad_13 rfl (fun _ => absurd ‹_› (by decide)) (fun _ => ?_)
      refine mx_aload_n dX8_isLoad_16 rfl rfl ?_
      refine mx_get 8 16 (ref := "PrairiePoolModel") cl_8 (Nat.le_of_ble_eq_true rfl) (Or.inl q1643) (Or.inl rfl) dX8_isLoad_17 (fv_8_16 _ _) (ly8_k La0_h2) ?_
      refine mx_tr (ly8_R_0_16 La0_h2) ?_
      refine mx_iload_n dX8_isLoad_20 rfl rfl ?_
      obtain ⟨k7, H⟩ := H
      refine my_iald dX8_isLoad_21 rfl (ly8_A_9 La0_h2 k7) ?_
      refine mx_ti ((ah_skIA eh2 (by omega)).trans (ah_skIA eh1 (by omega))) ?_
      refine mx_if_ne (tgt := 29) dX8_isLoad_22 rfl (fun c8 => ?_) (fun c8 => ?_)
      · have H := H.1 c8
        refine mx_iconst dX8_isLoad_29 ic_0 ?_
        refine mx_zretK rfl dX8_isLoad_30 (Or.inl rfl) ?_
        refine mx_if_ne (tgt := 24) dX8_grade_15 rfl (fun _ => absurd ‹_› (by decide)) (fun _ => ?_)
        refine mx_aload_n dX8_grade_18 rfl rfl ?_
        refine mx_iconst dX8_grade_19 ic_2 ?_
        refine mx_callV 8 (y' := mi_X8_refuse) (vs := [iv (2 : Int32)]) (st := []) (al' := [some (rv a0), some (iv (2 : Int32))]) cl_8 V_X8_refuse (Or.inl q1999) dX8_grade_20 rfl rfl (Nat.le_of_ble_eq_true rfl) (Nat.le_of_ble_eq_true rfl) (ly8_k La0_h2) ?_
        refine mx_aload_n dX8_refuse_0 rfl rfl ?_
        refine mx_iload_n dX8_refuse_1 rfl rfl ?_
        refine mx_putI 8 0 (ref := "PrairiePoolModel") cl_8 (Nat.le_of_ble_eq_true rfl) (Or.inl q1627) (Or.inl rfl) dX8_refuse_2 (Or.inl rfl) rfl (ly8_k La0_h2) ?_
        refine mx_nmI  (fun h9 eh9 Xh9 Kh9 Lh9 => ?_)
        have H := H h9 eh9 Xh9
        have Kh9 := Kh9.trans Kh2
        have Lh9 := Lh9.trans Lh2
        have La0_h9 := La0_h2.ext Xh9
        refine mx_iconst dX8_refuse_5 ic_m1 ?_
        refine mx_iretK rfl dX8_refuse_6 ?_
        exact mx_iret rfl dX8_grade_23 H
      · have H := H.2 c8
        refine mx_iconst dX8_isLoad_25 ic_1 ?_
        refine mx_goto (tgt := 30) dX8_isLoad_26 rfl ?_
        refine mx_zretK rfl dX8_isLoad_30 (Or.inr rfl) ?_
        refine mx_if_ne (tgt := 24) dX8_grade_15 rfl (fun _ => ?_) (fun _ => absurd ‹_› (by decide))
        refine mx_iload_n dX8_grade_24 rfl rfl ?_
        refine mx_callS (y' := mi_X8_isDay) (vs := [iv x2]) (st := []) (al' := [some (iv x2)]) S_X8_isDay q2028 dX8_grade_25 rfl rfl (Nat.le_of_ble_eq_true rfl) (Nat.le_of_ble_eq_true rfl) ?_
        refine mx_iload_n dX8_isDay_0 rfl rfl ?_
        refine mx_i2l dX8_isDay_1 ?_
        refine mx_lconst dX8_isDay_2 lc_0 ?_
        refine mx_ldc2 q2031 dX8_isDay_3 ?_
        refine mx_callS (y' := mi_X8_isIn) (vs := [jv x2.toInt64, jv (0 : Int64), jv (519 : Int64)]) (st := []) (al' := [some (jv x2.toInt64), none, some (jv (0 : Int64)), none, some (jv (519 : Int64)), none]) S_X8_isIn q1996 dX8_isDay_6 rfl rfl (Nat.le_of_ble_eq_true rfl) (Nat.le_of_ble_eq_true rfl) ?_
        refine mx_lload_n dX8_isIn_0 rfl rfl ?_
        refine mx_lload_n dX8_isIn_1 rfl rfl ?_
        refine mx_lif_lt (tgt := 17) dX8_isIn_2 dX8_isIn_3 rfl (fun c10 => ?_) (fun c10 => ?_)
        · have H := H.1 c10
          refine mx_iconst dX8_isIn_17 ic_0 ?_
          refine mx_zretK rfl dX8_isIn_18 (Or.inl rfl) ?_
          refine mx_zretK rfl dX8_isDay_9 (Or.inl rfl) ?_
          refine mx_if_ne (tgt := 37) dX8_grade_28 rfl (fun _ => absurd ‹_› (by decide)) (fun _ => ?_)
          refine mx_aload_n dX8_grade_31 rfl rfl ?_
          refine mx_iconst dX8_grade_32 ic_5 ?_
          refine mx_callV 8 (y' := mi_X8_refuse) (vs := [iv (5 : Int32)]) (st := []) (al' := [some (rv a0), some (iv (5 : Int32))]) cl_8 V_X8_refuse (Or.inl q1999) dX8_grade_33 rfl rfl (Nat.le_of_ble_eq_true rfl) (Nat.le_of_ble_eq_true rfl) (ly8_k La0_h2) ?_
          refine mx_aload_n dX8_refuse_0 rfl rfl ?_
          refine mx_iload_n dX8_refuse_1 rfl rfl ?_
          refine mx_putI 8 0 (ref := "PrairiePoolModel") cl_8 (Nat.le_of_ble_eq_true rfl) (Or.inl q1627) (Or.inl rfl) dX8_refuse_2 (Or.inl rfl) rfl (ly8_k La0_h2) ?_
          refine mx_nmI  (fun h11 eh11 Xh11 Kh11 Lh11 => ?_)
          have H := H h11 eh11 Xh11
          have Kh11 := Kh11.trans Kh2
          have Lh11 := Lh11.trans Lh2
          have La0_h11 := La0_h2.ext Xh11
          refine mx_iconst dX8_refuse_5 ic_m1 ?_
          refine mx_iretK rfl dX8_refuse_6 ?_
          exact mx_iret rfl dX8_grade_36 H
        · have H := H.2 c10
          refine mx_lload_n dX8_isIn_6 rfl rfl ?_
          refine mx_lload dX8_isIn_7 rfl ?_
          refine mx_lif_gt (tgt := 17) dX8_isIn_9 dX8_isIn_10 rfl (fun c12 => ?_) (fun c12 => ?_)
          · have H := H.1 c12
            refine mx_iconst dX8_isIn_17 ic_0 ?_
            refine mx_zretK rfl dX8_isIn_18 (Or.inl rfl) ?_
            refine mx_zretK rfl dX8_isDay_9 (Or.inl rfl) ?_
            refine mx_if_ne (tgt := 37) dX8_grade_28 rfl (fun _ => absurd ‹_› (by decide)) (fun _ => ?_)
            refine mx_aload_n dX8_grade_31 rfl rfl ?_
            refine mx_iconst dX8_grade_32 ic_5 ?_
            refine mx_callV 8 (y' := mi_X8_refuse) (vs := [iv (5 : Int32)]) (st := []) (al' := [some (rv a0), some (iv (5 : Int32))]) cl_8 V_X8_refuse (Or.inl q1999) dX8_grade_33 rfl rfl (Nat.le_of_ble_eq_true rfl) (Nat.le_of_ble_eq_true rfl) (ly8_k La0_h2) ?_
            refine mx_aload_n dX8_refuse_0 rfl rfl ?_
            refine mx_iload_n dX8_refuse_1 rfl rfl ?_
            refine mx_putI 8 0 (ref := "PrairiePoolModel") cl_8 (Nat.le_of_ble_eq_true rfl) (Or.inl q1627) (Or.inl rfl) dX8_refuse_2 (Or.inl rfl) rfl (ly8_k La0_h2) ?_
            refine mx_nmI  (fun h13 eh13 Xh13 Kh13 Lh13 => ?_)
            have H := H h13 eh13 Xh13
            have Kh13 := Kh13.trans Kh2
            have Lh13 := Lh13.trans Lh2
            have La0_h13 := La0_h2.ext Xh13
            refine mx_iconst dX8_refuse_5 ic_m1 ?_
            refine mx_iretK rfl dX8_refuse_6 ?_
            exact mx_iret rfl dX8_grade_36 H
          · have H := H.2 c12
            refine mx_iconst dX8_isIn_13 ic_1 ?_
            refine mx_goto (tgt := 18) dX8_isIn_14 rfl ?_
            refine mx_zretK rfl dX8_isIn_18 (Or.inr rfl) ?_
            refine mx_zretK rfl dX8_isDay_9 (Or.inr rfl) ?_
            refine mx_if_ne (tgt := 37) dX8_grade_28 rfl (fun _ => ?_) (fun _ => absurd ‹_› (by decide))
            refine mx_aload_n dX8_grade_37 rfl rfl ?_
            refine mx_get 8 25 (ref := "PrairiePoolModel") cl_8 (Nat.le_of_ble_eq_true rfl) (Or.inl q1652) (Or.inl rfl) dX8_grade_38 (fv_8_25 _ _) (ly8_k La0_h2) ?_
            refine mx_tr (ly8_R_0_25 La0_h2) ?_
            refine mx_iload_n dX8_grade_41 rfl rfl ?_
            refine my_iald dX8_grade_42 rfl (ly8_A_18 La0_h2 k7) ?_
            refine mx_ti ((ah_skIA eh2 (by omega)).trans (ah_skIA eh1 (by omega))) ?_
            refine mx_iload_n dX8_grade_43 rfl rfl ?_
            refine mx_icmp_le (tgt := 56) dX8_grade_44 rfl (fun c14 => ?_) (fun c14 => ?_)
            · have H := H.1 c14
              refine mx_aload_n dX8_grade_56 rfl rfl ?_
              refine mx_iload_n dX8_grade_57 rfl rfl ?_
              refine mx_iload_n dX8_grade_58 rfl rfl ?_
              refine mx_callV 8 (y' := mi_X8_gradeOf) (vs := [iv x1, iv x2]) (st := []) (al' := [some (rv a0), some (iv x1), some (iv x2), none, none, none, none, none, none, none]) cl_8 V_X8_gradeOf (Or.inl q2063) dX8_grade_59 rfl rfl (Nat.le_of_ble_eq_true rfl) (Nat.le_of_ble_eq_true rfl) (ly8_k La0_h2) ?_
              refine ma_ki H (fun r16 h15 Xh15 H => ?_) (fun x1 h1 X1 H => mt_out rfl H)
              have H := H Xh15
              have La0_h15 := La0_h2.ext Xh15
              exact mx_iret rfl dX8_grade_62 H
            · have H := H.2 c14
              refine mx_aload_n dX8_grade_47 rfl rfl ?_
              refine mx_bipush dX8_grade_48 ib_8 ?_
              refine mx_callV 8 (y' := mi_X8_refuse) (vs := [iv (8 : Int32)]) (st := []) (al' := [some (rv a0), some (iv (8 : Int32))]) cl_8 V_X8_refuse (Or.inl q1999) dX8_grade_50 rfl rfl (Nat.le_of_ble_eq_true rfl) (Nat.le_of_ble_eq_true rfl) (ly8_k La0_h2) ?_
              refine mx_aload_n dX8_refuse_0 rfl rfl ?_
              refine mx_iload_n dX8_refuse_1 rfl rfl ?_
              refine mx_putI 8 0 (ref := "PrairiePoolModel") cl_8 (Nat.le_of_ble_eq_true rfl) (Or.inl q1627) (Or.inl rfl) dX8_refuse_2 (Or.inl rfl) rfl (ly8_k La0_h2) ?_
              refine mx_nmI  (fun h17 eh17 Xh17 Kh17 Lh17 => ?_)
              have H := H h17 eh17 Xh17
              have Kh17 := Kh17.trans Kh2
              have Lh17 := Lh17.trans Lh2
              have La0_h17 := La0_h2.ext Xh17
              refine mx_iconst dX8_refuse_5 ic_m1 ?_
              refine mx_iretK rfl dX8_refuse_6 ?_
              refine mx_goto (tgt := 62) dX8_grade_53 rfl ?_
              exact mx_iret rfl dX8_grade_62 H
theorem dX8_gradeOf_0 : decode mi_X8_gradeOf.2.1 0 = .ok (.iconst 5, 1) := by decide +kernel
theorem dX8_gradeOf_1 : decode mi_X8_gradeOf.2.1 1 = .ok (.istore_n 3, 1) := by decide +kernel
theorem dX8_gradeOf_2 : decode mi_X8_gradeOf.2.1 2 = .ok (.iconst 0, 1) := by decide +kernel
theorem dX8_gradeOf_3 : decode mi_X8_gradeOf.2.1 3 = .ok (.istore 4, 2) := by decide +kernel
theorem dX8_gradeOf_5 : decode mi_X8_gradeOf.2.1 5 = .ok (.lconst 0, 1) := by decide +kernel
theorem dX8_gradeOf_6 : decode mi_X8_gradeOf.2.1 6 = .ok (.lstore 5, 2) := by decide +kernel
theorem dX8_gradeOf_8 : decode mi_X8_gradeOf.2.1 8 = .ok (.iconst 0, 1) := by decide +kernel
theorem dX8_gradeOf_9 : decode mi_X8_gradeOf.2.1 9 = .ok (.istore 7, 2) := by decide +kernel
theorem dX8_gradeOf_11 : decode mi_X8_gradeOf.2.1 11 = .ok (.iload 7, 2) := by decide +kernel
theorem dX8_gradeOf_13 : decode mi_X8_gradeOf.2.1 13 = .ok (.aload_n 0, 1) := by decide +kernel
theorem dX8_gradeOf_14 : decode mi_X8_gradeOf.2.1 14 = .ok (.getfield 341, 3) := by decide +kernel
theorem dX8_gradeOf_17 : decode mi_X8_gradeOf.2.1 17 = .ok (.if_icmp .ge 192, 3) := by decide +kernel
theorem dX8_gradeOf_20 : decode mi_X8_gradeOf.2.1 20 = .ok (.aload_n 0, 1) := by decide +kernel
theorem dX8_gradeOf_21 : decode mi_X8_gradeOf.2.1 21 = .ok (.getfield 65, 3) := by decide +kernel
theorem dX8_gradeOf_24 : decode mi_X8_gradeOf.2.1 24 = .ok (.iload 7, 2) := by decide +kernel
theorem dX8_gradeOf_26 : decode mi_X8_gradeOf.2.1 26 = .ok (.iaload, 1) := by decide +kernel
theorem dX8_gradeOf_27 : decode mi_X8_gradeOf.2.1 27 = .ok (.iload_n 1, 1) := by decide +kernel
theorem dX8_gradeOf_28 : decode mi_X8_gradeOf.2.1 28 = .ok (.if_icmp .ne 175, 3) := by decide +kernel
theorem dX8_gradeOf_31 : decode mi_X8_gradeOf.2.1 31 = .ok (.aload_n 0, 1) := by decide +kernel
theorem dX8_gradeOf_32 : decode mi_X8_gradeOf.2.1 32 = .ok (.getfield 74, 3) := by decide +kernel
theorem dX8_gradeOf_35 : decode mi_X8_gradeOf.2.1 35 = .ok (.iload 7, 2) := by decide +kernel
theorem dX8_gradeOf_37 : decode mi_X8_gradeOf.2.1 37 = .ok (.iaload, 1) := by decide +kernel
theorem dX8_gradeOf_38 : decode mi_X8_gradeOf.2.1 38 = .ok (.iload_n 2, 1) := by decide +kernel
theorem dX8_gradeOf_39 : decode mi_X8_gradeOf.2.1 39 = .ok (.if_icmp .le 6, 3) := by decide +kernel
theorem dX8_gradeOf_42 : decode mi_X8_gradeOf.2.1 42 = .ok (.goto 161, 3) := by decide +kernel
theorem dX8_gradeOf_45 : decode mi_X8_gradeOf.2.1 45 = .ok (.aload_n 0, 1) := by decide +kernel
theorem dX8_gradeOf_46 : decode mi_X8_gradeOf.2.1 46 = .ok (.invokevirtual 344, 3) := by decide +kernel
theorem dX8_gradeOf_49 : decode mi_X8_gradeOf.2.1 49 = .ok (.aload_n 0, 1) := by decide +kernel
theorem dX8_gradeOf_50 : decode mi_X8_gradeOf.2.1 50 = .ok (.getfield 151, 3) := by decide +kernel
theorem dX8_gradeOf_53 : decode mi_X8_gradeOf.2.1 53 = .ok (.iconst 0, 1) := by decide +kernel
theorem dX8_gradeOf_54 : decode mi_X8_gradeOf.2.1 54 = .ok (.aload_n 0, 1) := by decide +kernel
theorem dX8_gradeOf_55 : decode mi_X8_gradeOf.2.1 55 = .ok (.getfield 71, 3) := by decide +kernel
theorem dX8_gradeOf_58 : decode mi_X8_gradeOf.2.1 58 = .ok (.iload 7, 2) := by decide +kernel
theorem dX8_gradeOf_60 : decode mi_X8_gradeOf.2.1 60 = .ok (.iaload, 1) := by decide +kernel
theorem dX8_gradeOf_61 : decode mi_X8_gradeOf.2.1 61 = .ok (.i2l, 1) := by decide +kernel
theorem dX8_gradeOf_62 : decode mi_X8_gradeOf.2.1 62 = .ok (.lastore, 1) := by decide +kernel
theorem dX8_gradeOf_63 : decode mi_X8_gradeOf.2.1 63 = .ok (.aload_n 0, 1) := by decide +kernel
theorem dX8_gradeOf_64 : decode mi_X8_gradeOf.2.1 64 = .ok (.getfield 151, 3) := by decide +kernel
theorem dX8_gradeOf_67 : decode mi_X8_gradeOf.2.1 67 = .ok (.iconst 1, 1) := by decide +kernel
theorem dX8_gradeOf_68 : decode mi_X8_gradeOf.2.1 68 = .ok (.aload_n 0, 1) := by decide +kernel
theorem dX8_gradeOf_69 : decode mi_X8_gradeOf.2.1 69 = .ok (.getfield 68, 3) := by decide +kernel
theorem dX8_gradeOf_72 : decode mi_X8_gradeOf.2.1 72 = .ok (.iload 7, 2) := by decide +kernel
theorem dX8_gradeOf_74 : decode mi_X8_gradeOf.2.1 74 = .ok (.iaload, 1) := by decide +kernel
theorem dX8_gradeOf_75 : decode mi_X8_gradeOf.2.1 75 = .ok (.i2l, 1) := by decide +kernel
theorem dX8_gradeOf_76 : decode mi_X8_gradeOf.2.1 76 = .ok (.lastore, 1) := by decide +kernel
theorem dX8_gradeOf_77 : decode mi_X8_gradeOf.2.1 77 = .ok (.aload_n 0, 1) := by decide +kernel
theorem dX8_gradeOf_78 : decode mi_X8_gradeOf.2.1 78 = .ok (.getfield 151, 3) := by decide +kernel
theorem dX8_gradeOf_81 : decode mi_X8_gradeOf.2.1 81 = .ok (.iconst 2, 1) := by decide +kernel
theorem dX8_gradeOf_82 : decode mi_X8_gradeOf.2.1 82 = .ok (.aload_n 0, 1) := by decide +kernel
theorem dX8_gradeOf_83 : decode mi_X8_gradeOf.2.1 83 = .ok (.getfield 59, 3) := by decide +kernel
theorem dX8_gradeOf_86 : decode mi_X8_gradeOf.2.1 86 = .ok (.iload_n 1, 1) := by decide +kernel
theorem dX8_gradeOf_87 : decode mi_X8_gradeOf.2.1 87 = .ok (.iaload, 1) := by decide +kernel
theorem dX8_gradeOf_88 : decode mi_X8_gradeOf.2.1 88 = .ok (.i2l, 1) := by decide +kernel
theorem dX8_gradeOf_89 : decode mi_X8_gradeOf.2.1 89 = .ok (.lastore, 1) := by decide +kernel
theorem dX8_gradeOf_90 : decode mi_X8_gradeOf.2.1 90 = .ok (.aload_n 0, 1) := by decide +kernel
theorem dX8_gradeOf_91 : decode mi_X8_gradeOf.2.1 91 = .ok (.getfield 151, 3) := by decide +kernel
theorem dX8_gradeOf_94 : decode mi_X8_gradeOf.2.1 94 = .ok (.iconst 3, 1) := by decide +kernel
theorem dX8_gradeOf_95 : decode mi_X8_gradeOf.2.1 95 = .ok (.aload_n 0, 1) := by decide +kernel
theorem dX8_gradeOf_96 : decode mi_X8_gradeOf.2.1 96 = .ok (.getfield 59, 3) := by decide +kernel
theorem dX8_gradeOf_99 : decode mi_X8_gradeOf.2.1 99 = .ok (.iload_n 1, 1) := by decide +kernel
theorem dX8_gradeOf_100 : decode mi_X8_gradeOf.2.1 100 = .ok (.iaload, 1) := by decide +kernel
theorem dX8_gradeOf_101 : decode mi_X8_gradeOf.2.1 101 = .ok (.bipush 52, 2) := by decide +kernel
theorem dX8_gradeOf_103 : decode mi_X8_gradeOf.2.1 103 = .ok (.idiv, 1) := by decide +kernel
theorem dX8_gradeOf_104 : decode mi_X8_gradeOf.2.1 104 = .ok (.i2l, 1) := by decide +kernel
theorem dX8_gradeOf_105 : decode mi_X8_gradeOf.2.1 105 = .ok (.lastore, 1) := by decide +kernel
theorem dX8_gradeOf_106 : decode mi_X8_gradeOf.2.1 106 = .ok (.aload_n 0, 1) := by decide +kernel
theorem dX8_gradeOf_107 : decode mi_X8_gradeOf.2.1 107 = .ok (.getfield 151, 3) := by decide +kernel
theorem dX8_gradeOf_110 : decode mi_X8_gradeOf.2.1 110 = .ok (.iconst 4, 1) := by decide +kernel
theorem dX8_gradeOf_111 : decode mi_X8_gradeOf.2.1 111 = .ok (.aload_n 0, 1) := by decide +kernel
theorem dX8_gradeOf_112 : decode mi_X8_gradeOf.2.1 112 = .ok (.iload_n 1, 1) := by decide +kernel
theorem dX8_gradeOf_113 : decode mi_X8_gradeOf.2.1 113 = .ok (.invokevirtual 347, 3) := by decide +kernel
theorem dX8_gradeOf_116 : decode mi_X8_gradeOf.2.1 116 = .ok (.i2l, 1) := by decide +kernel
theorem dX8_gradeOf_117 : decode mi_X8_gradeOf.2.1 117 = .ok (.lastore, 1) := by decide +kernel
theorem dX8_gradeOf_118 : decode mi_X8_gradeOf.2.1 118 = .ok (.aload_n 0, 1) := by decide +kernel
theorem dX8_gradeOf_119 : decode mi_X8_gradeOf.2.1 119 = .ok (.getfield 151, 3) := by decide +kernel
theorem dX8_gradeOf_122 : decode mi_X8_gradeOf.2.1 122 = .ok (.bipush 7, 2) := by decide +kernel
theorem dX8_gradeOf_124 : decode mi_X8_gradeOf.2.1 124 = .ok (.aload_n 0, 1) := by decide +kernel
theorem dX8_gradeOf_125 : decode mi_X8_gradeOf.2.1 125 = .ok (.getfield 20, 3) := by decide +kernel
theorem dX8_gradeOf_128 : decode mi_X8_gradeOf.2.1 128 = .ok (.aload_n 0, 1) := by decide +kernel
theorem dX8_gradeOf_129 : decode mi_X8_gradeOf.2.1 129 = .ok (.getfield 38, 3) := by decide +kernel
theorem dX8_gradeOf_132 : decode mi_X8_gradeOf.2.1 132 = .ok (.iload_n 1, 1) := by decide +kernel
theorem dX8_gradeOf_133 : decode mi_X8_gradeOf.2.1 133 = .ok (.iaload, 1) := by decide +kernel
theorem dX8_gradeOf_134 : decode mi_X8_gradeOf.2.1 134 = .ok (.iaload, 1) := by decide +kernel
theorem dX8_gradeOf_135 : decode mi_X8_gradeOf.2.1 135 = .ok (.i2l, 1) := by decide +kernel
theorem dX8_gradeOf_136 : decode mi_X8_gradeOf.2.1 136 = .ok (.lastore, 1) := by decide +kernel
theorem dX8_gradeOf_137 : decode mi_X8_gradeOf.2.1 137 = .ok (.aload_n 0, 1) := by decide +kernel
theorem dX8_gradeOf_138 : decode mi_X8_gradeOf.2.1 138 = .ok (.bipush 114, 2) := by decide +kernel
theorem dX8_gradeOf_140 : decode mi_X8_gradeOf.2.1 140 = .ok (.bipush 97, 2) := by decide +kernel
theorem dX8_gradeOf_142 : decode mi_X8_gradeOf.2.1 142 = .ok (.bipush 110, 2) := by decide +kernel
theorem dX8_gradeOf_144 : decode mi_X8_gradeOf.2.1 144 = .ok (.bipush 107, 2) := by decide +kernel
theorem dX8_gradeOf_146 : decode mi_X8_gradeOf.2.1 146 = .ok (.iconst 0, 1) := by decide +kernel
theorem dX8_gradeOf_147 : decode mi_X8_gradeOf.2.1 147 = .ok (.iconst 0, 1) := by decide +kernel
theorem dX8_gradeOf_148 : decode mi_X8_gradeOf.2.1 148 = .ok (.invokestatic 350, 3) := by decide +kernel
theorem dX8_gradeOf_151 : decode mi_X8_gradeOf.2.1 151 = .ok (.aload_n 0, 1) := by decide +kernel
theorem dX8_gradeOf_152 : decode mi_X8_gradeOf.2.1 152 = .ok (.getfield 59, 3) := by decide +kernel
theorem dX8_gradeOf_155 : decode mi_X8_gradeOf.2.1 155 = .ok (.iload_n 1, 1) := by decide +kernel
theorem dX8_gradeOf_156 : decode mi_X8_gradeOf.2.1 156 = .ok (.iaload, 1) := by decide +kernel
theorem dX8_gradeOf_157 : decode mi_X8_gradeOf.2.1 157 = .ok (.lconst 0, 1) := by decide +kernel
theorem dX8_gradeOf_158 : decode mi_X8_gradeOf.2.1 158 = .ok (.invokevirtual 354, 3) := by decide +kernel
theorem dX8_gradeOf_161 : decode mi_X8_gradeOf.2.1 161 = .ok (.ldc2_w 358, 3) := by decide +kernel
theorem dX8_gradeOf_164 : decode mi_X8_gradeOf.2.1 164 = .ok (.ldc2_w 304, 3) := by decide +kernel
theorem dX8_gradeOf_167 : decode mi_X8_gradeOf.2.1 167 = .ok (.invokestatic 360, 3) := by decide +kernel
theorem dX8_gradeOf_170 : decode mi_X8_gradeOf.2.1 170 = .ok (.lstore 8, 2) := by decide +kernel
theorem dX8_gradeOf_172 : decode mi_X8_gradeOf.2.1 172 = .ok (.iload 4, 2) := by decide +kernel
theorem dX8_gradeOf_174 : decode mi_X8_gradeOf.2.1 174 = .ok (.ifCond .eq 14, 3) := by decide +kernel
theorem dX8_gradeOf_177 : decode mi_X8_gradeOf.2.1 177 = .ok (.lload 8, 2) := by decide +kernel
theorem dX8_gradeOf_179 : decode mi_X8_gradeOf.2.1 179 = .ok (.lload 5, 2) := by decide +kernel
theorem dX8_gradeOf_181 : decode mi_X8_gradeOf.2.1 181 = .ok (.lcmp, 1) := by decide +kernel
theorem dX8_gradeOf_182 : decode mi_X8_gradeOf.2.1 182 = .ok (.ifCond .ge 6, 3) := by decide +kernel
theorem dX8_gradeOf_185 : decode mi_X8_gradeOf.2.1 185 = .ok (.goto 18, 3) := by decide +kernel
theorem dX8_gradeOf_188 : decode mi_X8_gradeOf.2.1 188 = .ok (.iconst 1, 1) := by decide +kernel
theorem dX8_gradeOf_189 : decode mi_X8_gradeOf.2.1 189 = .ok (.istore 4, 2) := by decide +kernel
theorem dX8_gradeOf_191 : decode mi_X8_gradeOf.2.1 191 = .ok (.lload 8, 2) := by decide +kernel
theorem dX8_gradeOf_193 : decode mi_X8_gradeOf.2.1 193 = .ok (.lstore 5, 2) := by decide +kernel
theorem dX8_gradeOf_195 : decode mi_X8_gradeOf.2.1 195 = .ok (.aload_n 0, 1) := by decide +kernel
theorem dX8_gradeOf_196 : decode mi_X8_gradeOf.2.1 196 = .ok (.getfield 71, 3) := by decide +kernel
theorem dX8_gradeOf_199 : decode mi_X8_gradeOf.2.1 199 = .ok (.iload 7, 2) := by decide +kernel
theorem dX8_gradeOf_201 : decode mi_X8_gradeOf.2.1 201 = .ok (.iaload, 1) := by decide +kernel
theorem dX8_gradeOf_202 : decode mi_X8_gradeOf.2.1 202 = .ok (.istore_n 3, 1) := by decide +kernel
theorem dX8_gradeOf_203 : decode mi_X8_gradeOf.2.1 203 = .ok (.iinc 7 1, 3) := by decide +kernel
theorem dX8_gradeOf_206 : decode mi_X8_gradeOf.2.1 206 = .ok (.goto (-195), 3) := by decide +kernel
theorem dX8_gradeOf_209 : decode mi_X8_gradeOf.2.1 209 = .ok (.iload_n 3, 1) := by decide +kernel
theorem dX8_gradeOf_210 : decode mi_X8_gradeOf.2.1 210 = .ok (.ireturn, 1) := by decide +kernel
theorem v_X8_gradeOf {G : ma_G} {d : Nat} {a0 : Nat} {x1 : Int32} {x2 : Int32} {h : ah_T} {Q : Option ma_V → ah_T → Prop} {E : Nat → ah_T → Prop} (La0_h : LY8 h a0) (H : MX G mi_X8_gradeOf (d + 1) 11 [some (rv a0), some (iv x1), some (iv x2), some (iv (5 : Int32)), some (iv (0 : Int32)), some (jv (0 : Int64)), none, some (iv (0 : Int32)), none, none] [] h Q E) : MX G mi_X8_gradeOf (d + 1) 0 [some (rv a0), some (iv x1), some (iv x2), none, none, none, none, none, none, none] [] h Q E := by
  refine mx_iconst dX8_gradeOf_0 ic_5 ?_
  refine mx_istore_n (al' := [some (rv a0), some (iv x1), some (iv x2), some (iv (5 : Int32)), none, none, none, none, none, none]) dX8_gradeOf_1 rfl (Nat.le_of_ble_eq_true rfl) rfl ?_
  refine mx_iconst dX8_gradeOf_2 ic_0 ?_
  refine mx_istore (al' := [some (rv a0), some (iv x1), some (iv x2), some (iv (5 : Int32)), some (iv (0 : Int32)), none, none, none, none, none]) dX8_gradeOf_3 (Nat.le_of_ble_eq_true rfl) rfl ?_
  refine mx_lconst dX8_gradeOf_5 lc_0 ?_
  refine mx_lstore (al' := [some (rv a0), some (iv x1), some (iv x2), some (iv (5 : Int32)), some (iv (0 : Int32)), some (jv (0 : Int64)), none, none, none, none]) dX8_gradeOf_6 (Nat.le_of_ble_eq_true rfl) rfl ?_
  refine mx_iconst dX8_gradeOf_8 ic_0 ?_
  refine mx_istore (al' := [some (rv a0), some (iv x1), some (iv x2), some (iv (5 : Int32)), some (iv (0 : Int32)), some (jv (0 : Int64)), none, some (iv (0 : Int32)), none, none]) dX8_gradeOf_9 (Nat.le_of_ble_eq_true rfl) rfl ?_
  exact mx_weak (al' := [some (rv a0), some (iv x1), some (iv x2), some (iv (5 : Int32)), some (iv (0 : Int32)), some (jv (0 : Int64)), none, some (iv (0 : Int32)), none, none]) ⟨rfl, ⟨rfl, ⟨rfl, ⟨rfl, ⟨rfl, ⟨rfl, ⟨rfl, trivial⟩⟩⟩⟩⟩⟩⟩ H
theorem v_X8_gradeOf_11 {G : ma_G} {d : Nat} {a0 : Nat} {x1 : Int32} {x2 : Int32} {x3 : Int32} {x4 : Int32} {x5 : Int64} {x7 : Int32} {h : ah_T} {Q : Option ma_V → ah_T → Prop} {E : Nat → ah_T → Prop} (La0_h : LY8 h a0) (H : ((ah_I h a0 8) ≤ x7 → Q (some (iv x3)) h) ∧ (¬ (ah_I h a0 8) ≤ x7 → vp_in x7 100 ∧ (¬ (ah_I h (a0 + 19) x7.toNatClampNeg) = x1 → MX G mi_X8_gradeOf (d + 1) 11 [some (rv a0), some (iv x1), some (iv x2), some (iv x3), some (iv x4), some (jv x5), none, some (iv (x7 + (1 : Int32))), none, none] [] h Q E) ∧ ((ah_I h (a0 + 19) x7.toNatClampNeg) = x1 → ((ah_I h (a0 + 22) x7.toNatClampNeg) ≤ x2 → MX G mi_X8_letNothing d 0 [some (rv a0), none] [] h (Qv fun h5 => ah_ext h h5 → ∀ h7 : ah_T, h7 = ah_wJ h5 (a0 + 45) 0 (ah_I h5 (a0 + 21) x7.toNatClampNeg).toInt64 → ah_ext h5 h7 → ∀ h8 : ah_T, h8 = ah_wJ h7 (a0 + 45) 1 (ah_I h5 (a0 + 20) x7.toNatClampNeg).toInt64 → ah_ext h7 h8 → vp_in x1 120 ∧ ∀ h10 : ah_T, h10 = ah_wJ h8 (a0 + 45) 2 (ah_I h5 (a0 + 17) x1.toNatClampNeg).toInt64 → ah_ext h8 h10 → ∀ h11 : ah_T, h11 = ah_wJ h10 (a0 + 45) 3 ((ah_I h5 (a0 + 17) x1.toNatClampNeg) / (52 : Int32)).toInt64 → ah_ext h10 h11 → ∀ h12 : ah_T, h12 = ah_wJ h11 (a0 + 45) 4 ((ah_I h5 (a0 + 15) x1.toNatClampNeg) - (((ah_I h5 (a0 + 15) x1.toNatClampNeg) * (ah_I h5 (a0 + 16) x1.toNatClampNeg)) / (1000 : Int32))).toInt64 → ah_ext h11 h12 → vp_in (ah_I h5 (a0 + 10) x1.toNatClampNeg) 20 ∧ ∀ h14 : ah_T, h14 = ah_wJ h12 (a0 + 45) 7 (ah_I h5 (a0 + 4) (ah_I h5 (a0 + 10) x1.toNatClampNeg).toNatClampNeg).toInt64 → ah_ext h12 h14 → MX G mi_X8_told d 0 [some (rv a0), some (jv (591307 : Int64)), none, some (iv (ah_I h5 (a0 + 17) x1.toNatClampNeg)), some (jv (0 : Int64)), none, none, none, none] [] h14 (Ql fun r16 h15 => ah_ext h14 h15 → (x4 = 0 → MX G mi_X8_gradeOf (d + 1) 11 [some (rv a0), some (iv x1), some (iv x2), some (iv (ah_I h15 (a0 + 21) x7.toNatClampNeg)), some (iv (1 : Int32)), some (jv (jCut r16 (-1000000 : Int64) (1000000 : Int64))), none, some (iv (x7 + (1 : Int32))), none, none] [] h15 Q E) ∧ (¬ x4 = 0 → (x5 ≤ (jCut r16 (-1000000 : Int64) (1000000 : Int64)) → MX G mi_X8_gradeOf (d + 1) 11 [some (rv a0), some (iv x1), some (iv x2), some (iv (ah_I h15 (a0 + 21) x7.toNatClampNeg)), some (iv (1 : Int32)), some (jv (jCut r16 (-1000000 : Int64) (1000000 : Int64))), none, some (iv (x7 + (1 : Int32))), none, none] [] h15 Q E) ∧ (¬ x5 ≤ (jCut r16 (-1000000 : Int64) (1000000 : Int64)) → MX G mi_X8_gradeOf (d + 1) 11 [some (rv a0), some (iv x1), some (iv x2), some (iv x3), some (iv x4), some (jv x5), none, some (iv (x7 + (1 : Int32))), none, none] [] h15 Q E))) E) E) ∧ (¬ (ah_I h (a0 + 22) x7.toNatClampNeg) ≤ x2 → MX G mi_X8_gradeOf (d + 1) 11 [some (rv a0), some (iv x1), some (iv x2), some (iv x3), some (iv x4), some (jv x5), none, some (iv (x7 + (1 : Int32))), none, none] [] h Q E)))) : MX G mi_X8_gradeOf (d + 1) 11 [some (rv a0), some (iv x1), some (iv x2), some (iv x3), some (iv x4), some (jv x5), none, some (iv x7), none, none] [] h Q E := by
  refine mx_iload dX8_gradeOf_11 rfl ?_
  refine mx_aload_n dX8_gradeOf_13 rfl rfl ?_
  refine mx_get 8 8 (ref := "PrairiePoolModel") cl_8 (Nat.le_of_ble_eq_true rfl) (Or.inl q1635) (Or.inl rfl) dX8_gradeOf_14 (fv_8_8 _ _) (ly8_k La0_h) ?_
  refine mx_icmp_ge (tgt := 209) dX8_gradeOf_17 rfl (fun c1 => ?_) (fun c1 => ?_)
  · have H := H.1 c1
    refine mx_iload_n dX8_gradeOf_209 rfl rfl ?_
    exact mx_iret rfl dX8_gradeOf_210 H
  · have H := H.2 c1
    refine mx_aload_n dX8_gradeOf_20 rfl rfl ?_
    refine mx_get 8 26 (ref := "PrairiePoolModel") cl_8 (Nat.le_of_ble_eq_true rfl) (Or.inl q1653) (Or.inl rfl) dX8_gradeOf_21 (fv_8_26 _ _) (ly8_k La0_h) ?_
    refine mx_tr (ly8_R_0_26 La0_h) ?_
    refine mx_iload dX8_gradeOf_24 rfl ?_
    obtain ⟨k2, H⟩ := H
    refine my_iald dX8_gradeOf_26 rfl (ly8_A_19 La0_h k2) ?_
    refine mx_iload_n dX8_gradeOf_27 rfl rfl ?_
    refine mx_icmp_ne (tgt := 203) dX8_gradeOf_28 rfl (fun c3 => ?_) (fun c3 => ?_)
    · have H := H.1 c3
      refine mx_iinc (al' := [some (rv a0), some (iv x1), some (iv x2), some (iv x3), some (iv x4), some (jv x5), none, some (iv (x7 + (1 : Int32))), none, none]) dX8_gradeOf_203 rfl ic_1 rfl ?_
      refine mx_goto (tgt := 11) dX8_gradeOf_206 rfl ?_
      exact mx_weak (al' := [some (rv a0), some (iv x1), some (iv x2), some (iv x3), some (iv x4), some (jv x5), none, some (iv (x7 + (1 : Int32))), none, none]) ⟨rfl, ⟨rfl, ⟨rfl, ⟨rfl, ⟨rfl, ⟨rfl, ⟨rfl, trivial⟩⟩⟩⟩⟩⟩⟩ H
    · have H := H.2 c3
      refine mx_aload_n dX8_gradeOf_31 rfl rfl ?_
      refine mx_get 8 29 (ref := "PrairiePoolModel") cl_8 (Nat.le_of_ble_eq_true rfl) (Or.inl q1656) (Or.inl rfl) dX8_gradeOf_32 (fv_8_29 _ _) (ly8_k La0_h) ?_
      refine mx_tr (ly8_R_0_29 La0_h) ?_
      refine mx_iload dX8_gradeOf_35 rfl ?_
      refine my_iald dX8_gradeOf_37 rfl (ly8_A_22 La0_h k2) ?_
      refine mx_iload_n dX8_gradeOf_38 rfl rfl ?_
      refine mx_icmp_le (tgt := 45) dX8_gradeOf_39 rfl (fun c4 => ?_) (fun c4 => ?_)
      · have H := H.1 c4
        refine mx_aload_n dX8_gradeOf_45 rfl rfl ?_
        refine mx_callV 8 (y' := mi_X8_letNothing) (vs := []) (st := []) (al' := [some (rv a0), none]) cl_8 V_X8_letNothing (Or.inl q2067) dX8_gradeOf_46 rfl rfl (Nat.le_of_ble_eq_true rfl) (Nat.le_of_ble_eq_true rfl) (ly8_k La0_h) ?_
        refine ma_kv H (fun h5 Xh5 H => ?_) (fun x1 h1 X1 H => mt_out rfl H)
        have H := H Xh5
        have La0_h5 := La0_h.ext Xh5
        refine mx_aload_n dX8_gradeOf_49 rfl rfl ?_
        refine mx_get 8 68 (ref := "PrairiePoolModel") cl_8 (Nat.le_of_ble_eq_true rfl) (Or.inl q1695) (Or.inl rfl) dX8_gradeOf_50 (fv_8_68 _ _) (ly8_k La0_h5) ?_
        refine mx_tr (ly8_R_0_68 La0_h5) ?_
        refine mx_iconst dX8_gradeOf_53 ic_0 ?_
        refine mx_aload_n dX8_gradeOf_54 rfl rfl ?_
        refine mx_get 8 28 (ref := "PrairiePoolModel") cl_8 (Nat.le_of_ble_eq_true rfl) (Or.inl q1655) (Or.inl rfl) dX8_gradeOf_55 (fv_8_28 _ _) (ly8_k La0_h5) ?_
        refine mx_tr (ly8_R_0_28 La0_h5) ?_
        refine mx_iload dX8_gradeOf_58 rfl ?_
        refine my_iald dX8_gradeOf_60 rfl (ly8_A_21 La0_h5 k2) ?_
        refine mx_i2l dX8_gradeOf_61 ?_
        refine my_last dX8_gradeOf_62 cn_0 (ly8_A_45 La0_h5 (vp_c (by decide))) ?_
        refine mx_nmJ  (fun h7 eh7 Xh7 Kh7 Lh7 => ?_)
        have H := H h7 eh7 Xh7
        have La0_h7 := La0_h5.ext Xh7
        refine mx_aload_n dX8_gradeOf_63 rfl rfl ?_
        refine mx_get 8 68 (ref := "PrairiePoolModel") cl_8 (Nat.le_of_ble_eq_true rfl) (Or.inl q1695) (Or.inl rfl) dX8_gradeOf_64 (fv_8_68 _ _) (ly8_k La0_h7) ?_
        refine mx_tr (ly8_R_0_68 La0_h7) ?_
        refine mx_iconst dX8_gradeOf_67 ic_1 ?_
        refine mx_aload_n dX8_gradeOf_68 rfl rfl ?_
        refine mx_get 8 27 (ref := "PrairiePoolModel") cl_8 (Nat.le_of_ble_eq_true rfl) (Or.inl q1654) (Or.inl rfl) dX8_gradeOf_69 (fv_8_27 _ _) (ly8_k La0_h7) ?_
        refine mx_tr (ly8_R_0_27 La0_h7) ?_
        refine mx_iload dX8_gradeOf_72 rfl ?_
        refine my_iald dX8_gradeOf_74 rfl (ly8_A_20 La0_h7 k2) ?_
        refine mx_ti (ah_IJ eh7) ?_
        refine mx_i2l dX8_gradeOf_75 ?_
        refine my_last dX8_gradeOf_76 cn_1 (ly8_A_45 La0_h7 (vp_c (by decide))) ?_
        refine mx_nmJ  (fun h8 eh8 Xh8 Kh8 Lh8 => ?_)
        have H := H h8 eh8 Xh8
        have Kh8 := Kh8.trans Kh7
        have Lh8 := Lh8.trans Lh7
        have La0_h8 := La0_h7.ext Xh8
        refine mx_aload_n dX8_gradeOf_77 rfl rfl ?_
        refine mx_get 8 68 (ref := "PrairiePoolModel") cl_8 (Nat.le_of_ble_eq_true rfl) (Or.inl q1695) (Or.inl rfl) dX8_gradeOf_78 (fv_8_68 _ _) (ly8_k La0_h8) ?_
        refine mx_tr (ly8_R_0_68 La0_h8) ?_
        refine mx_iconst dX8_gradeOf_81 ic_2 ?_
        refine mx_aload_n dX8_gradeOf_82 rfl rfl ?_
        refine mx_get 8 24 (ref := "PrairiePoolModel") cl_8 (Nat.le_of_ble_eq_true rfl) (Or.inl q1651) (Or.inl rfl) dX8_gradeOf_83 (fv_8_24 _ _) (ly8_k La0_h8) ?_
        refine mx_tr (ly8_R_0_24 La0_h8) ?_
        refine mx_iload_n dX8_gradeOf_86 rfl rfl ?_
        obtain ⟨k9, H⟩ := H
        refine my_iald dX8_gradeOf_87 rfl (ly8_A_17 La0_h8 k9) ?_
        refine mx_ti ((ah_IJ eh8).trans (ah_IJ eh7)) ?_
        refine mx_i2l dX8_gradeOf_88 ?_
        refine my_last dX8_gradeOf_89 cn_2 (ly8_A_45 La0_h8 (vp_c (by decide))) ?_
        refine mx_nmJ  (fun h10 eh10 Xh10 Kh10 Lh10 => ?_)
        have H := H h10 eh10 Xh10
        have Kh10 := Kh10.trans Kh8
        have Lh10 := Lh10.trans Lh8
        have La0_h10 := La0_h8.ext Xh10
        refine mx_aload_n dX8_gradeOf_90 rfl rfl ?_
        refine mx_get 8 68 (ref := "PrairiePoolModel") cl_8 (Nat.le_of_ble_eq_true rfl) (Or.inl q1695) (Or.inl rfl) dX8_gradeOf_91 (fv_8_68 _ _) (ly8_k La0_h10) ?_
        refine mx_tr (ly8_R_0_68 La0_h10) ?_
        refine mx_iconst dX8_gradeOf_94 ic_3 ?_
        refine mx_aload_n dX8_gradeOf_95 rfl rfl ?_
        refine mx_get 8 24 (ref := "PrairiePoolModel") cl_8 (Nat.le_of_ble_eq_true rfl) (Or.inl q1651) (Or.inl rfl) dX8_gradeOf_96 (fv_8_24 _ _) (ly8_k La0_h10) ?_
        refine mx_tr (ly8_R_0_24 La0_h10) ?_
        refine mx_iload_n dX8_gradeOf_99 rfl rfl ?_
        refine my_iald dX8_gradeOf_100 rfl (ly8_A_17 La0_h10 k9) ?_
        refine mx_ti (((ah_IJ eh10).trans (ah_IJ eh8)).trans (ah_IJ eh7)) ?_
        refine mx_bipush dX8_gradeOf_101 ib_52 ?_
        refine mx_idiv dX8_gradeOf_103 (by decide) ?_
        refine mx_i2l dX8_gradeOf_104 ?_
        refine my_last dX8_gradeOf_105 cn_3 (ly8_A_45 La0_h10 (vp_c (by decide))) ?_
        refine mx_nmJ  (fun h11 eh11 Xh11 Kh11 Lh11 => ?_)
        have H := H h11 eh11 Xh11
        have Kh11 := Kh11.trans Kh10
        have Lh11 := Lh11.trans Lh10
        have La0_h11 := La0_h10.ext Xh11
        refine mx_aload_n dX8_gradeOf_106 rfl rfl ?_
        refine mx_get 8 68 (ref := "PrairiePoolModel") cl_8 (Nat.le_of_ble_eq_true rfl) (Or.inl q1695) (Or.inl rfl) dX8_gradeOf_107 (fv_8_68 _ _) (ly8_k La0_h11) ?_
        refine mx_tr (ly8_R_0_68 La0_h11) ?_
        refine mx_iconst dX8_gradeOf_110 ic_4 ?_
        refine mx_aload_n dX8_gradeOf_111 rfl rfl ?_
        refine mx_iload_n dX8_gradeOf_112 rfl rfl ?_
        refine mx_callV 8 (y' := mi_X8_net) (vs := [iv x1]) (st := [iv (4 : Int32), rv (a0 + 45)]) (al' := [some (rv a0), some (iv x1)]) cl_8 V_X8_net (Or.inl q2071) dX8_gradeOf_113 rfl rfl (Nat.le_of_ble_eq_true rfl) (Nat.le_of_ble_eq_true rfl) (ly8_k La0_h11) ?_
        refine mx_aload_n dX8_net_0 rfl rfl ?_
        refine mx_get 8 22 (ref := "PrairiePoolModel") cl_8 (Nat.le_of_ble_eq_true rfl) (Or.inl q1649) (Or.inl rfl) dX8_net_1 (fv_8_22 _ _) (ly8_k La0_h11) ?_
        refine mx_tr (ly8_R_0_22 La0_h11) ?_
        refine mx_iload_n dX8_net_4 rfl rfl ?_
        refine my_iald dX8_net_5 rfl (ly8_A_15 La0_h11 k9) ?_
        refine mx_ti ((((ah_IJ eh11).trans (ah_IJ eh10)).trans (ah_IJ eh8)).trans (ah_IJ eh7)) ?_
        refine mx_aload_n dX8_net_6 rfl rfl ?_
        refine mx_get 8 22 (ref := "PrairiePoolModel") cl_8 (Nat.le_of_ble_eq_true rfl) (Or.inl q1649) (Or.inl rfl) dX8_net_7 (fv_8_22 _ _) (ly8_k La0_h11) ?_
        refine mx_tr (ly8_R_0_22 La0_h11) ?_
        refine mx_iload_n dX8_net_10 rfl rfl ?_
        refine my_iald dX8_net_11 rfl (ly8_A_15 La0_h11 k9) ?_
        refine mx_ti ((((ah_IJ eh11).trans (ah_IJ eh10)).trans (ah_IJ eh8)).trans (ah_IJ eh7)) ?_
        refine mx_aload_n dX8_net_12 rfl rfl ?_
        refine mx_get 8 23 (ref := "PrairiePoolModel") cl_8 (Nat.le_of_ble_eq_true rfl) (Or.inl q1650) (Or.inl rfl) dX8_net_13 (fv_8_23 _ _) (ly8_k La0_h11) ?_
        refine mx_tr (ly8_R_0_23 La0_h11) ?_
        refine mx_iload_n dX8_net_16 rfl rfl ?_
        refine my_iald dX8_net_17 rfl (ly8_A_16 La0_h11 k9) ?_
        refine mx_ti ((((ah_IJ eh11).trans (ah_IJ eh10)).trans (ah_IJ eh8)).trans (ah_IJ eh7)) ?_
        refine mx_imul dX8_net_18 ?_
        refine mx_sipush dX8_net_19 is_1000 ?_
        refine mx_idiv dX8_net_22 (by decide) ?_
        refine mx_isub dX8_net_23 ?_
        refine mx_iretK rfl dX8_net_24 ?_
        refine mx_i2l dX8_gradeOf_116 ?_
        refine my_last dX8_gradeOf_117 cn_4 (ly8_A_45 La0_h11 (vp_c (by decide))) ?_
        refine mx_nmJ  (fun h12 eh12 Xh12 Kh12 Lh12 => ?_)
        have H := H h12 eh12 Xh12
        have Kh12 := Kh12.trans Kh11
        have Lh12 := Lh12.trans Lh11
        have La0_h12 := La0_h11.ext Xh12
        refine mx_aload_n dX8_gradeOf_118 rfl rfl ?_
        refine mx_get 8 68 (ref := "PrairiePoolModel") cl_8 (Nat.le_of_ble_eq_true rfl) (Or.inl q1695) (Or.inl rfl) dX8_gradeOf_119 (fv_8_68 _ _) (ly8_k La0_h12) ?_
        refine mx_tr (ly8_R_0_68 La0_h12) ?_
        refine mx_bipush dX8_gradeOf_122 ib_7 ?_
        refine mx_aload_n dX8_gradeOf_124 rfl rfl ?_
        refine mx_get 8 11 (ref := "PrairiePoolModel") cl_8 (Nat.le_of_ble_eq_true rfl) (Or.inl q1638) (Or.inl rfl) dX8_gradeOf_125 (fv_8_11 _ _) (ly8_k La0_h12) ?_
        refine mx_tr (ly8_R_0_11 La0_h12) ?_
        refine mx_aload_n dX8_gradeOf_128 rfl rfl ?_
        refine mx_get 8 17 (ref := "PrairiePoolModel") cl_8 (Nat.le_of_ble_eq_true rfl) (Or.inl q1644) (Or.inl rfl) dX8_gradeOf_129 (fv_8_17 _ _) (ly8_k La0_h12) ?_
        refine mx_tr (ly8_R_0_17 La0_h12) ?_
        refine mx_iload_n dX8_gradeOf_132 rfl rfl ?_
        refine my_iald dX8_gradeOf_133 rfl (ly8_A_10 La0_h12 k9) ?_
        refine mx_ti (((((ah_IJ eh12).trans (ah_IJ eh11)).trans (ah_IJ eh10)).trans (ah_IJ eh8)).trans (ah_IJ eh7)) ?_
        obtain ⟨k13, H⟩ := H
        refine my_iald dX8_gradeOf_134 rfl (ly8_A_4 La0_h12 k13) ?_
        refine mx_ti (((((ah_IJ eh12).trans (ah_IJ eh11)).trans (ah_IJ eh10)).trans (ah_IJ eh8)).trans (ah_IJ eh7)) ?_
        refine mx_i2l dX8_gradeOf_135 ?_
        refine my_last dX8_gradeOf_136 cn_7 (ly8_A_45 La0_h12 (vp_c (by decide))) ?_
        refine mx_nmJ  (fun h14 eh14 Xh14 Kh14 Lh14 => ?_)
        have H := H h14 eh14 Xh14
        have Kh14 := Kh14.trans Kh12
        have Lh14 := Lh14.trans Lh12
        have La0_h14 := La0_h12.ext Xh14
        refine mx_aload_n dX8_gradeOf_137 rfl rfl ?_
        refine mx_bipush dX8_gradeOf_138 ib_114 ?_
        refine mx_bipush dX8_gradeOf_140 ib_97 ?_
        refine mx_bipush dX8_gradeOf_142 ib_110 ?_
        refine mx_bipush dX8_gradeOf_144 ib_107 ?_
        refine mx_iconst dX8_gradeOf_146 ic_0 ?_
        refine mx_iconst dX8_gradeOf_147 ic_0 ?_
        refine mx_callS (y' := mi_X8_spelled) (vs := [iv (114 : Int32), iv (97 : Int32), iv (110 : Int32), iv (107 : Int32), iv (0 : Int32), iv (0 : Int32)]) (st := [rv a0]) (al' := [some (iv (114 : Int32)), some (iv (97 : Int32)), some (iv (110 : Int32)), some (iv (107 : Int32)), some (iv (0 : Int32)), some (iv (0 : Int32)), none, none]) S_X8_spelled q2075 dX8_gradeOf_148 rfl rfl (Nat.le_of_ble_eq_true rfl) (Nat.le_of_ble_eq_true rfl) ?_
        refine mx_iload_n dX8_spelled_0 rfl rfl ?_
        refine mx_i2l dX8_spelled_1 ?_
        refine mx_ldc2 q2078 dX8_spelled_2 ?_
        refine mx_lsub dX8_spelled_5 ?_
        refine mx_lstore (al' := [some (iv (114 : Int32)), some (iv (97 : Int32)), some (iv (110 : Int32)), some (iv (107 : Int32)), some (iv (0 : Int32)), some (iv (0 : Int32)), some (jv ((114 : Int32).toInt64 - (96 : Int64))), none]) dX8_spelled_6 (Nat.le_of_ble_eq_true rfl) rfl ?_
        refine mx_lload dX8_spelled_8 rfl ?_
        refine mx_ldc2 q2079 dX8_spelled_10 ?_
        refine mx_lmul dX8_spelled_13 ?_
        refine mx_iload_n dX8_spelled_14 rfl rfl ?_
        refine mx_i2l dX8_spelled_15 ?_
        refine mx_ladd dX8_spelled_16 ?_
        refine mx_ldc2 q2078 dX8_spelled_17 ?_
        refine mx_lsub dX8_spelled_20 ?_
        refine mx_lstore (al' := [some (iv (114 : Int32)), some (iv (97 : Int32)), some (iv (110 : Int32)), some (iv (107 : Int32)), some (iv (0 : Int32)), some (iv (0 : Int32)), some (jv (((((114 : Int32).toInt64 - (96 : Int64)) * (32 : Int64)) + (97 : Int32).toInt64) - (96 : Int64))), none]) dX8_spelled_21 (Nat.le_of_ble_eq_true rfl) rfl ?_
        refine mx_iload_n dX8_spelled_23 rfl rfl ?_
        refine mx_if_le (tgt := 43) dX8_spelled_24 rfl (fun _ => absurd ‹_› (by decide)) (fun _ => ?_)
        refine mx_lload dX8_spelled_27 rfl ?_
        refine mx_ldc2 q2079 dX8_spelled_29 ?_
        refine mx_lmul dX8_spelled_32 ?_
        refine mx_iload_n dX8_spelled_33 rfl rfl ?_
        refine mx_i2l dX8_spelled_34 ?_
        refine mx_ladd dX8_spelled_35 ?_
        refine mx_ldc2 q2078 dX8_spelled_36 ?_
        refine mx_lsub dX8_spelled_39 ?_
        refine mx_goto (tgt := 45) dX8_spelled_40 rfl ?_
        refine mx_lstore (al' := [some (iv (114 : Int32)), some (iv (97 : Int32)), some (iv (110 : Int32)), some (iv (107 : Int32)), some (iv (0 : Int32)), some (iv (0 : Int32)), some (jv ((((((((114 : Int32).toInt64 - (96 : Int64)) * (32 : Int64)) + (97 : Int32).toInt64) - (96 : Int64)) * (32 : Int64)) + (110 : Int32).toInt64) - (96 : Int64))), none]) dX8_spelled_45 (Nat.le_of_ble_eq_true rfl) rfl ?_
        refine mx_iload_n dX8_spelled_47 rfl rfl ?_
        refine mx_if_le (tgt := 67) dX8_spelled_48 rfl (fun _ => absurd ‹_› (by decide)) (fun _ => ?_)
        refine mx_lload dX8_spelled_51 rfl ?_
        refine mx_ldc2 q2079 dX8_spelled_53 ?_
        refine mx_lmul dX8_spelled_56 ?_
        refine mx_iload_n dX8_spelled_57 rfl rfl ?_
        refine mx_i2l dX8_spelled_58 ?_
        refine mx_ladd dX8_spelled_59 ?_
        refine mx_ldc2 q2078 dX8_spelled_60 ?_
        refine mx_lsub dX8_spelled_63 ?_
        refine mx_goto (tgt := 69) dX8_spelled_64 rfl ?_
        refine mx_lstore (al' := [some (iv (114 : Int32)), some (iv (97 : Int32)), some (iv (110 : Int32)), some (iv (107 : Int32)), some (iv (0 : Int32)), some (iv (0 : Int32)), some (jv (((((((((((114 : Int32).toInt64 - (96 : Int64)) * (32 : Int64)) + (97 : Int32).toInt64) - (96 : Int64)) * (32 : Int64)) + (110 : Int32).toInt64) - (96 : Int64)) * (32 : Int64)) + (107 : Int32).toInt64) - (96 : Int64))), none]) dX8_spelled_69 (Nat.le_of_ble_eq_true rfl) rfl ?_
        refine mx_iload dX8_spelled_71 rfl ?_
        refine mx_if_le (tgt := 93) dX8_spelled_73 rfl (fun _ => ?_) (fun _ => absurd ‹_› (by decide))
        refine mx_lload dX8_spelled_93 rfl ?_
        refine mx_lstore (al' := [some (iv (114 : Int32)), some (iv (97 : Int32)), some (iv (110 : Int32)), some (iv (107 : Int32)), some (iv (0 : Int32)), some (iv (0 : Int32)), some (jv (((((((((((114 : Int32).toInt64 - (96 : Int64)) * (32 : Int64)) + (97 : Int32).toInt64) - (96 : Int64)) * (32 : Int64)) + (110 : Int32).toInt64) - (96 : Int64)) * (32 : Int64)) + (107 : Int32).toInt64) - (96 : Int64))), none]) dX8_spelled_95 (Nat.le_of_ble_eq_true rfl) rfl ?_
        refine mx_iload dX8_spelled_97 rfl ?_
        refine mx_if_le (tgt := 119) dX8_spelled_99 rfl (fun _ => ?_) (fun _ => absurd ‹_› (by decide))
        refine mx_lload dX8_spelled_119 rfl ?_
        refine mx_lretK rfl dX8_spelled_121 ?_
        refine mx_tj (show (((((((((((114 : Int32).toInt64 - (96 : Int64)) * (32 : Int64)) + (97 : Int32).toInt64) - (96 : Int64)) * (32 : Int64)) + (110 : Int32).toInt64) - (96 : Int64)) * (32 : Int64)) + (107 : Int32).toInt64) - (96 : Int64)) = (591307 : Int64) by decide) ?_
        refine mx_aload_n dX8_gradeOf_151 rfl rfl ?_
        refine mx_get 8 24 (ref := "PrairiePoolModel") cl_8 (Nat.le_of_ble_eq_true rfl) (Or.inl q1651) (Or.inl rfl) dX8_gradeOf_152 (fv_8_24 _ _) (ly8_k La0_h14) ?_
        refine mx_tr (ly8_R_0_24 La0_h14) ?_
        refine mx_iload_n dX8_gradeOf_155 rfl rfl ?_
        refine my_iald dX8_gradeOf_156 rfl (ly8_A_17 La0_h14 k9) ?_
        refine mx_ti ((((((ah_IJ eh14).trans (ah_IJ eh12)).trans (ah_IJ eh11)).trans (ah_IJ eh10)).trans (ah_IJ eh8)).trans (ah_IJ eh7)) ?_
        refine mx_lconst dX8_gradeOf_157 lc_0 ?_
        refine mx_callV 8 (y' := mi_X8_told) (vs := [jv (591307 : Int64), iv (ah_I h5 (a0 + 17) x1.toNatClampNeg), jv (0 : Int64)]) (st := []) (al' := [some (rv a0), some (jv (591307 : Int64)), none, some (iv (ah_I h5 (a0 + 17) x1.toNatClampNeg)), some (jv (0 : Int64)), none, none, none, none]) cl_8 V_X8_told (Or.inl q2080) dX8_gradeOf_158 rfl rfl (Nat.le_of_ble_eq_true rfl) (Nat.le_of_ble_eq_true rfl) (ly8_k La0_h14) ?_
        refine ma_kl H (fun r16 h15 Xh15 H => ?_) (fun x1 h1 X1 H => mt_out rfl H)
        have H := H Xh15
        have La0_h15 := La0_h14.ext Xh15
        refine mx_ldc2 q2107 dX8_gradeOf_161 ?_
        refine mx_ldc2 q2009 dX8_gradeOf_164 ?_
        refine mx_callS (y' := mi_X8_cut_2) (vs := [jv r16, jv (-1000000 : Int64), jv (1000000 : Int64)]) (st := []) (al' := [some (jv r16), none, some (jv (-1000000 : Int64)), none, some (jv (1000000 : Int64)), none]) S_X8_cut_2 q2108 dX8_gradeOf_167 rfl rfl (Nat.le_of_ble_eq_true rfl) (Nat.le_of_ble_eq_true rfl) ?_
        refine pv_X8_cut_2 ?_
        refine mx_lstore (al' := [some (rv a0), some (iv x1), some (iv x2), some (iv x3), some (iv x4), some (jv x5), none, some (iv x7), some (jv (jCut r16 (-1000000 : Int64) (1000000 : Int64))), none]) dX8_gradeOf_170 (Nat.le_of_ble_eq_true rfl) rfl ?_
        refine mx_iload dX8_gradeOf_172 rfl ?_
        refine mx_if_eq (tgt := 188) dX8_gradeOf_174 rfl (fun c17 => ?_) (fun c17 => ?_)
        · have H := H.1 c17
          refine mx_iconst dX8_gradeOf_188 ic_1 ?_
          refine mx_istore (al' := [some (rv a0), some (iv x1), some (iv x2), some (iv x3), some (iv (1 : Int32)), some (jv x5), none, some (iv x7), some (jv (jCut r16 (-1000000 : Int64) (1000000 : Int64))), none]) dX8_gradeOf_189 (Nat.le_of_ble_eq_true rfl) rfl ?_
          refine mx_lload dX8_gradeOf_191 rfl ?_
          refine mx_lstore (al' := [some (rv a0), some (iv x1), some (iv x2), some (iv x3), some (iv (1 : Int32)), some (jv (jCut r16 (-1000000 : Int64) (1000000 : Int64))), none, some (iv x7), some (jv (jCut r16 (-1000000 : Int64) (1000000 : Int64))), none]) dX8_gradeOf_193 (Nat.le_of_ble_eq_true rfl) rfl ?_
          refine mx_aload_n dX8_gradeOf_195 rfl rfl ?_
          refine mx_get 8 28 (ref := "PrairiePoolModel") cl_8 (Nat.le_of_ble_eq_true rfl) (Or.inl q1655) (Or.inl rfl) dX8_gradeOf_196 (fv_8_28 _ _) (ly8_k La0_h15) ?_
          refine mx_tr (ly8_R_0_28 La0_h15) ?_
          refine mx_iload dX8_gradeOf_199 rfl ?_
          refine my_iald dX8_gradeOf_201 rfl (ly8_A_21 La0_h15 k2) ?_
          refine mx_istore_n (al' := [some (rv a0), some (iv x1), some (iv x2), some (iv (ah_I h15 (a0 + 21) x7.toNatClampNeg)), some (iv (1 : Int32)), some (jv (jCut r16 (-1000000 : Int64) (1000000 : Int64))), none, some (iv x7), some (jv (jCut r16 (-1000000 : Int64) (1000000 : Int64))), none]) dX8_gradeOf_202 rfl (Nat.le_of_ble_eq_true rfl) rfl ?_
          refine mx_iinc (al' := [some (rv a0), some (iv x1), some (iv x2), some (iv (ah_I h15 (a0 + 21) x7.toNatClampNeg)), some (iv (1 : Int32)), some (jv (jCut r16 (-1000000 : Int64) (1000000 : Int64))), none, some (iv (x7 + (1 : Int32))), some (jv (jCut r16 (-1000000 : Int64) (1000000 : Int64))), none]) dX8_gradeOf_203 rfl ic_1 rfl ?_
          refine mx_goto (tgt := 11) dX8_gradeOf_206 rfl ?_
          exact mx_weak (al' := [some (rv a0), some (iv x1), some (iv x2), some (iv (ah_I h15 (a0 + 21) x7.toNatClampNeg)), some (iv (1 : Int32)), some (jv (jCut r16 (-1000000 : Int64) (1000000 : Int64))), none, some (iv (x7 + (1 : Int32))), none, none]) ⟨rfl, ⟨rfl, ⟨rfl, ⟨rfl, ⟨rfl, ⟨rfl, ⟨rfl, trivial⟩⟩⟩⟩⟩⟩⟩ H
        · have H := H.2 c17
          refine mx_lload dX8_gradeOf_177 rfl ?_
          refine mx_lload dX8_gradeOf_179 rfl ?_
          refine mx_lif_ge (tgt := 188) dX8_gradeOf_181 dX8_gradeOf_182 rfl (fun c18 => ?_) (fun c18 => ?_)
          · have H := H.1 c18
            refine mx_iconst dX8_gradeOf_188 ic_1 ?_
            refine mx_istore (al' := [some (rv a0), some (iv x1), some (iv x2), some (iv x3), some (iv (1 : Int32)), some (jv x5), none, some (iv x7), some (jv (jCut r16 (-1000000 : Int64) (1000000 : Int64))), none]) dX8_gradeOf_189 (Nat.le_of_ble_eq_true rfl) rfl ?_
            refine mx_lload dX8_gradeOf_191 rfl ?_
            refine mx_lstore (al' := [some (rv a0), some (iv x1), some (iv x2), some (iv x3), some (iv (1 : Int32)), some (jv (jCut r16 (-1000000 : Int64) (1000000 : Int64))), none, some (iv x7), some (jv (jCut r16 (-1000000 : Int64) (1000000 : Int64))), none]) dX8_gradeOf_193 (Nat.le_of_ble_eq_true rfl) rfl ?_
            refine mx_aload_n dX8_gradeOf_195 rfl rfl ?_
            refine mx_get 8 28 (ref := "PrairiePoolModel") cl_8 (Nat.le_of_ble_eq_true rfl) (Or.inl q1655) (Or.inl rfl) dX8_gradeOf_196 (fv_8_28 _ _) (ly8_k La0_h15) ?_
            refine mx_tr (ly8_R_0_28 La0_h15) ?_
            refine mx_iload dX8_gradeOf_199 rfl ?_
            refine my_iald dX8_gradeOf_201 rfl (ly8_A_21 La0_h15 k2) ?_
            refine mx_istore_n (al' := [some (rv a0), some (iv x1), some (iv x2), some (iv (ah_I h15 (a0 + 21) x7.toNatClampNeg)), some (iv (1 : Int32)), some (jv (jCut r16 (-1000000 : Int64) (1000000 : Int64))), none, some (iv x7), some (jv (jCut r16 (-1000000 : Int64) (1000000 : Int64))), none]) dX8_gradeOf_202 rfl (Nat.le_of_ble_eq_true rfl) rfl ?_
            refine mx_iinc (al' := [some (rv a0), some (iv x1), some (iv x2), some (iv (ah_I h15 (a0 + 21) x7.toNatClampNeg)), some (iv (1 : Int32)), some (jv (jCut r16 (-1000000 : Int64) (1000000 : Int64))), none, some (iv (x7 + (1 : Int32))), some (jv (jCut r16 (-1000000 : Int64) (1000000 : Int64))), none]) dX8_gradeOf_203 rfl ic_1 rfl ?_
            refine mx_goto (tgt := 11) dX8_gradeOf_206 rfl ?_
            exact mx_weak (al' := [some (rv a0), some (iv x1), some (iv x2), some (iv (ah_I h15 (a0 + 21) x7.toNatClampNeg)), some (iv (1 : Int32)), some (jv (jCut r16 (-1000000 : Int64) (1000000 : Int64))), none, some (iv (x7 + (1 : Int32))), none, none]) ⟨rfl, ⟨rfl, ⟨rfl, ⟨rfl, ⟨rfl, ⟨rfl, ⟨rfl, trivial⟩⟩⟩⟩⟩⟩⟩ H
          · have H := H.2 c18
            refine mx_goto (tgt := 203) dX8_gradeOf_185 rfl ?_
            refine mx_iinc (al' := [some (rv a0), some (iv x1), some (iv x2), some (iv x3), some (iv x4), some (jv x5), none, some (iv (x7 + (1 : Int32))), some (jv (jCut r16 (-1000000 : Int64) (1000000 : Int64))), none]) dX8_gradeOf_203 rfl ic_1 rfl ?_
            refine mx_goto (tgt := 11) dX8_gradeOf_206 rfl ?_
            exact mx_weak (al' := [some (rv a0), some (iv x1), some (iv x2), some (iv x3), some (iv x4), some (jv x5), none, some (iv (x7 + (1 : Int32))), none, none]) ⟨rfl, ⟨rfl, ⟨rfl, ⟨rfl, ⟨rfl, ⟨rfl, ⟨rfl, trivial⟩⟩⟩⟩⟩⟩⟩ H
      · have H := H.2 c4
        refine mx_goto (tgt := 203) dX8_gradeOf_42 rfl ?_
        refine mx_iinc (al' := [some (rv a0), some (iv x1), some (iv x2), some (iv x3), some (iv x4), some (jv x5), none, some (iv (x7 + (1 : Int32))), none, none]) dX8_gradeOf_203 rfl ic_1 rfl ?_
        refine mx_goto (tgt := 11) dX8_gradeOf_206 rfl ?_
        exact mx_weak (al' := [some (rv a0), some (iv x1), some (iv x2), some (iv x3), some (iv x4), some (jv x5), none, some (iv (x7 + (1 : Int32))), none, none]) ⟨rfl, ⟨rfl, ⟨rfl, ⟨rfl, ⟨rfl, ⟨rfl, ⟨rfl, trivial⟩⟩⟩⟩⟩⟩⟩ H
theorem dX8_letNothing_0 : decode mi_X8_letNothing.2.1 0 = .ok (.iconst 0, 1) := by decide +kernel
theorem dX8_letNothing_1 : decode mi_X8_letNothing.2.1 1 = .ok (.istore_n 1, 1) := by decide +kernel
theorem dX8_letNothing_2 : decode mi_X8_letNothing.2.1 2 = .ok (.iload_n 1, 1) := by decide +kernel
theorem dX8_letNothing_3 : decode mi_X8_letNothing.2.1 3 = .ok (.bipush 11, 2) := by decide +kernel
theorem dX8_letNothing_5 : decode mi_X8_letNothing.2.1 5 = .ok (.if_icmp .ge 16, 3) := by decide +kernel
theorem dX8_letNothing_8 : decode mi_X8_letNothing.2.1 8 = .ok (.aload_n 0, 1) := by decide +kernel
theorem dX8_letNothing_9 : decode mi_X8_letNothing.2.1 9 = .ok (.getfield 151, 3) := by decide +kernel
theorem dX8_letNothing_12 : decode mi_X8_letNothing.2.1 12 = .ok (.iload_n 1, 1) := by decide +kernel
theorem dX8_letNothing_13 : decode mi_X8_letNothing.2.1 13 = .ok (.lconst 0, 1) := by decide +kernel
theorem dX8_letNothing_14 : decode mi_X8_letNothing.2.1 14 = .ok (.lastore, 1) := by decide +kernel
theorem dX8_letNothing_15 : decode mi_X8_letNothing.2.1 15 = .ok (.iinc 1 1, 3) := by decide +kernel
theorem dX8_letNothing_18 : decode mi_X8_letNothing.2.1 18 = .ok (.goto (-16), 3) := by decide +kernel
theorem dX8_letNothing_21 : decode mi_X8_letNothing.2.1 21 = .ok (.return_, 1) := by decide +kernel
theorem v_X8_letNothing {G : ma_G} {d : Nat} {a0 : Nat} {h : ah_T} {Q : Option ma_V → ah_T → Prop} {E : Nat → ah_T → Prop} (La0_h : LY8 h a0) (H : MX G mi_X8_letNothing d 2 [some (rv a0), some (iv (0 : Int32))] [] h Q E) : MX G mi_X8_letNothing d 0 [some (rv a0), none] [] h Q E := by
  refine mx_iconst dX8_letNothing_0 ic_0 ?_
  refine mx_istore_n (al' := [some (rv a0), some (iv (0 : Int32))]) dX8_letNothing_1 rfl (Nat.le_of_ble_eq_true rfl) rfl ?_
  exact mx_weak (al' := [some (rv a0), some (iv (0 : Int32))]) ⟨rfl, ⟨rfl, trivial⟩⟩ H
theorem v_X8_letNothing_2 {G : ma_G} {d : Nat} {a0 : Nat} {x1 : Int32} {h : ah_T} {Q : Option ma_V → ah_T → Prop} {E : Nat → ah_T → Prop} (La0_h : LY8 h a0) (H : ((11 : Int32) ≤ x1 → Q none h) ∧ (¬ (11 : Int32) ≤ x1 → vp_in x1 11 ∧ ∀ h3 : ah_T, h3 = ah_wJ h (a0 + 45) x1.toNatClampNeg (0 : Int64) → ah_ext h h3 → MX G mi_X8_letNothing d 2 [some (rv a0), some (iv (x1 + (1 : Int32)))] [] h3 Q E)) : MX G mi_X8_letNothing d 2 [some (rv a0), some (iv x1)] [] h Q E := by
  refine mx_iload_n dX8_letNothing_2 rfl rfl ?_
  refine mx_bipush dX8_letNothing_3 ib_11 ?_
  refine mx_icmp_ge (tgt := 21) dX8_letNothing_5 rfl (fun c1 => ?_) (fun c1 => ?_)
  · have H := H.1 c1
    exact mx_vret rfl dX8_letNothing_21 H
  · have H := H.2 c1
    refine mx_aload_n dX8_letNothing_8 rfl rfl ?_
    refine mx_get 8 68 (ref := "PrairiePoolModel") cl_8 (Nat.le_of_ble_eq_true rfl) (Or.inl q1695) (Or.inl rfl) dX8_letNothing_9 (fv_8_68 _ _) (ly8_k La0_h) ?_
    refine mx_tr (ly8_R_0_68 La0_h) ?_
    refine mx_iload_n dX8_letNothing_12 rfl rfl ?_
    refine mx_lconst dX8_letNothing_13 lc_0 ?_
    obtain ⟨k2, H⟩ := H
    refine my_last dX8_letNothing_14 rfl (ly8_A_45 La0_h k2) ?_
    refine mx_nmJ  (fun h3 eh3 Xh3 Kh3 Lh3 => ?_)
    have H := H h3 eh3 Xh3
    have La0_h3 := La0_h.ext Xh3
    refine mx_iinc (al' := [some (rv a0), some (iv (x1 + (1 : Int32)))]) dX8_letNothing_15 rfl ic_1 rfl ?_
    refine mx_goto (tgt := 2) dX8_letNothing_18 rfl ?_
    exact mx_weak (al' := [some (rv a0), some (iv (x1 + (1 : Int32)))]) ⟨rfl, ⟨rfl, trivial⟩⟩ H
theorem v_X8_net {G : ma_G} {d : Nat} {a0 : Nat} {x1 : Int32} {h : ah_T} {Q : Option ma_V → ah_T → Prop} {E : Nat → ah_T → Prop} (La0_h : LY8 h a0) (H : vp_in x1 120 ∧ Q (some (iv ((ah_I h (a0 + 15) x1.toNatClampNeg) - (((ah_I h (a0 + 15) x1.toNatClampNeg) * (ah_I h (a0 + 16) x1.toNatClampNeg)) / (1000 : Int32))))) h) : MX G mi_X8_net d 0 [some (rv a0), some (iv x1)] [] h Q E := by
  refine mx_aload_n dX8_net_0 rfl rfl ?_
  refine mx_get 8 22 (ref := "PrairiePoolModel") cl_8 (Nat.le_of_ble_eq_true rfl) (Or.inl q1649) (Or.inl rfl) dX8_net_1 (fv_8_22 _ _) (ly8_k La0_h) ?_
  refine mx_tr (ly8_R_0_22 La0_h) ?_
  refine mx_iload_n dX8_net_4 rfl rfl ?_
  obtain ⟨k1, H⟩ := H
  refine my_iald dX8_net_5 rfl (ly8_A_15 La0_h k1) ?_
  refine mx_aload_n dX8_net_6 rfl rfl ?_
  refine mx_get 8 22 (ref := "PrairiePoolModel") cl_8 (Nat.le_of_ble_eq_true rfl) (Or.inl q1649) (Or.inl rfl) dX8_net_7 (fv_8_22 _ _) (ly8_k La0_h) ?_
  refine mx_tr (ly8_R_0_22 La0_h) ?_
  refine mx_iload_n dX8_net_10 rfl rfl ?_
  refine my_iald dX8_net_11 rfl (ly8_A_15 La0_h k1) ?_
  refine mx_aload_n dX8_net_12 rfl rfl ?_
  refine mx_get 8 23 (ref := "PrairiePoolModel") cl_8 (Nat.le_of_ble_eq_true rfl) (Or.inl q1650) (Or.inl rfl) dX8_net_13 (fv_8_23 _ _) (ly8_k La0_h) ?_
  refine mx_tr (ly8_R_0_23 La0_h) ?_
  refine mx_iload_n dX8_net_16 rfl rfl ?_
  refine my_iald dX8_net_17 rfl (ly8_A_16 La0_h k1) ?_
  refine mx_imul dX8_net_18 ?_
  refine mx_sipush dX8_net_19 is_1000 ?_
  refine mx_idiv dX8_net_22 (by decide) ?_
  refine mx_isub dX8_net_23 ?_
  exact mx_iret rfl dX8_net_24 H
