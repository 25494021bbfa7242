/-! the law's own entry -/
set_option maxRecDepth 100000
abbrev cL_law : ByteArray := code
theorem dL_law_0 : decode cL_law 0 = .ok (.new 8, 3) := by decide +kernel
theorem dL_law_3 : decode cL_law 3 = .ok (.dup, 1) := by decide +kernel
theorem dL_law_4 : decode cL_law 4 = .ok (.invokespecial 64, 3) := by decide +kernel
theorem dL_law_7 : decode cL_law 7 = .ok (.astore_n 1, 1) := by decide +kernel
theorem dL_law_8 : decode cL_law 8 = .ok (.new 65, 3) := by decide +kernel
theorem dL_law_11 : decode cL_law 11 = .ok (.dup, 1) := by decide +kernel
theorem dL_law_12 : decode cL_law 12 = .ok (.invokespecial 67, 3) := by decide +kernel
theorem dL_law_15 : decode cL_law 15 = .ok (.astore_n 2, 1) := by decide +kernel
theorem dL_law_16 : decode cL_law 16 = .ok (.iconst 1, 1) := by decide +kernel
theorem dL_law_17 : decode cL_law 17 = .ok (.newarray .long, 2) := by decide +kernel
theorem dL_law_19 : decode cL_law 19 = .ok (.astore_n 3, 1) := by decide +kernel
theorem dL_law_20 : decode cL_law 20 = .ok (.iconst 1, 1) := by decide +kernel
theorem dL_law_21 : decode cL_law 21 = .ok (.newarray .double, 2) := by decide +kernel
theorem dL_law_23 : decode cL_law 23 = .ok (.astore 4, 2) := by decide +kernel
theorem dL_law_25 : decode cL_law 25 = .ok (.iconst 0, 1) := by decide +kernel
theorem dL_law_26 : decode cL_law 26 = .ok (.istore 5, 2) := by decide +kernel
theorem dL_law_28 : decode cL_law 28 = .ok (.iload 5, 2) := by decide +kernel
theorem dL_law_30 : decode cL_law 30 = .ok (.aload_n 0, 1) := by decide +kernel
theorem dL_law_31 : decode cL_law 31 = .ok (.arraylength, 1) := by decide +kernel
theorem dL_law_32 : decode cL_law 32 = .ok (.iconst 5, 1) := by decide +kernel
theorem dL_law_33 : decode cL_law 33 = .ok (.isub, 1) := by decide +kernel
theorem dL_law_34 : decode cL_law 34 = .ok (.if_icmp .gt 1022, 3) := by decide +kernel
theorem dL_law_37 : decode cL_law 37 = .ok (.aload_n 0, 1) := by decide +kernel
theorem dL_law_38 : decode cL_law 38 = .ok (.iload 5, 2) := by decide +kernel
theorem dL_law_40 : decode cL_law 40 = .ok (.iaload, 1) := by decide +kernel
theorem dL_law_41 : decode cL_law 41 = .ok (.bipush 15, 2) := by decide +kernel
theorem dL_law_43 : decode cL_law 43 = .ok (.iand, 1) := by decide +kernel
theorem dL_law_44 : decode cL_law 44 = .ok (.tableswitch 1006 0 12 #[68, 148, 206, 308, 388, 478, 574, 630, 696, 752, 820, 888, 965], 68) := by decide +kernel
theorem dL_law_112 : decode cL_law 112 = .ok (.aload_n 1, 1) := by decide +kernel
theorem dL_law_113 : decode cL_law 113 = .ok (.aload_n 0, 1) := by decide +kernel
theorem dL_law_114 : decode cL_law 114 = .ok (.iload 5, 2) := by decide +kernel
theorem dL_law_116 : decode cL_law 116 = .ok (.iconst 1, 1) := by decide +kernel
theorem dL_law_117 : decode cL_law 117 = .ok (.iadd, 1) := by decide +kernel
theorem dL_law_118 : decode cL_law 118 = .ok (.iaload, 1) := by decide +kernel
theorem dL_law_119 : decode cL_law 119 = .ok (.aload_n 0, 1) := by decide +kernel
theorem dL_law_120 : decode cL_law 120 = .ok (.iload 5, 2) := by decide +kernel
theorem dL_law_122 : decode cL_law 122 = .ok (.iconst 2, 1) := by decide +kernel
theorem dL_law_123 : decode cL_law 123 = .ok (.iadd, 1) := by decide +kernel
theorem dL_law_124 : decode cL_law 124 = .ok (.iaload, 1) := by decide +kernel
theorem dL_law_125 : decode cL_law 125 = .ok (.aload_n 0, 1) := by decide +kernel
theorem dL_law_126 : decode cL_law 126 = .ok (.iload 5, 2) := by decide +kernel
theorem dL_law_128 : decode cL_law 128 = .ok (.iconst 3, 1) := by decide +kernel
theorem dL_law_129 : decode cL_law 129 = .ok (.iadd, 1) := by decide +kernel
theorem dL_law_130 : decode cL_law 130 = .ok (.iaload, 1) := by decide +kernel
theorem dL_law_131 : decode cL_law 131 = .ok (.aload_n 3, 1) := by decide +kernel
theorem dL_law_132 : decode cL_law 132 = .ok (.invokestatic 68, 3) := by decide +kernel
theorem dL_law_135 : decode cL_law 135 = .ok (.istore 6, 2) := by decide +kernel
theorem dL_law_137 : decode cL_law 137 = .ok (.aload_n 2, 1) := by decide +kernel
theorem dL_law_138 : decode cL_law 138 = .ok (.aload_n 0, 1) := by decide +kernel
theorem dL_law_139 : decode cL_law 139 = .ok (.iload 5, 2) := by decide +kernel
theorem dL_law_141 : decode cL_law 141 = .ok (.iconst 1, 1) := by decide +kernel
theorem dL_law_142 : decode cL_law 142 = .ok (.iadd, 1) := by decide +kernel
theorem dL_law_143 : decode cL_law 143 = .ok (.iaload, 1) := by decide +kernel
theorem dL_law_144 : decode cL_law 144 = .ok (.aload_n 0, 1) := by decide +kernel
theorem dL_law_145 : decode cL_law 145 = .ok (.iload 5, 2) := by decide +kernel
theorem dL_law_147 : decode cL_law 147 = .ok (.iconst 2, 1) := by decide +kernel
theorem dL_law_148 : decode cL_law 148 = .ok (.iadd, 1) := by decide +kernel
theorem dL_law_149 : decode cL_law 149 = .ok (.iaload, 1) := by decide +kernel
theorem dL_law_150 : decode cL_law 150 = .ok (.aload_n 0, 1) := by decide +kernel
theorem dL_law_151 : decode cL_law 151 = .ok (.iload 5, 2) := by decide +kernel
theorem dL_law_153 : decode cL_law 153 = .ok (.iconst 3, 1) := by decide +kernel
theorem dL_law_154 : decode cL_law 154 = .ok (.iadd, 1) := by decide +kernel
theorem dL_law_155 : decode cL_law 155 = .ok (.iaload, 1) := by decide +kernel
theorem dL_law_156 : decode cL_law 156 = .ok (.invokevirtual 73, 3) := by decide +kernel
theorem dL_law_159 : decode cL_law 159 = .ok (.istore 7, 2) := by decide +kernel
theorem dL_law_161 : decode cL_law 161 = .ok (.aload_n 2, 1) := by decide +kernel
theorem dL_law_162 : decode cL_law 162 = .ok (.invokevirtual 74, 3) := by decide +kernel
theorem dL_law_165 : decode cL_law 165 = .ok (.iload 6, 2) := by decide +kernel
theorem dL_law_167 : decode cL_law 167 = .ok (.if_icmp .eq 5, 3) := by decide +kernel
theorem dL_law_170 : decode cL_law 170 = .ok (.iconst 0, 1) := by decide +kernel
theorem dL_law_171 : decode cL_law 171 = .ok (.ireturn, 1) := by decide +kernel
theorem dL_law_172 : decode cL_law 172 = .ok (.iload 6, 2) := by decide +kernel
theorem dL_law_174 : decode cL_law 174 = .ok (.ifCond .ne 15, 3) := by decide +kernel
theorem dL_law_177 : decode cL_law 177 = .ok (.aload_n 3, 1) := by decide +kernel
theorem dL_law_178 : decode cL_law 178 = .ok (.iconst 0, 1) := by decide +kernel
theorem dL_law_179 : decode cL_law 179 = .ok (.laload, 1) := by decide +kernel
theorem dL_law_180 : decode cL_law 180 = .ok (.iload 7, 2) := by decide +kernel
theorem dL_law_182 : decode cL_law 182 = .ok (.i2l, 1) := by decide +kernel
theorem dL_law_183 : decode cL_law 183 = .ok (.lcmp, 1) := by decide +kernel
theorem dL_law_184 : decode cL_law 184 = .ok (.ifCond .eq 5, 3) := by decide +kernel
theorem dL_law_187 : decode cL_law 187 = .ok (.iconst 0, 1) := by decide +kernel
theorem dL_law_188 : decode cL_law 188 = .ok (.ireturn, 1) := by decide +kernel
theorem dL_law_189 : decode cL_law 189 = .ok (.goto 861, 3) := by decide +kernel
theorem dL_law_192 : decode cL_law 192 = .ok (.aload_n 1, 1) := by decide +kernel
theorem dL_law_193 : decode cL_law 193 = .ok (.aload_n 0, 1) := by decide +kernel
theorem dL_law_194 : decode cL_law 194 = .ok (.iload 5, 2) := by decide +kernel
theorem dL_law_196 : decode cL_law 196 = .ok (.iconst 1, 1) := by decide +kernel
theorem dL_law_197 : decode cL_law 197 = .ok (.iadd, 1) := by decide +kernel
theorem dL_law_198 : decode cL_law 198 = .ok (.iaload, 1) := by decide +kernel
theorem dL_law_199 : decode cL_law 199 = .ok (.aload_n 0, 1) := by decide +kernel
theorem dL_law_200 : decode cL_law 200 = .ok (.iload 5, 2) := by decide +kernel
theorem dL_law_202 : decode cL_law 202 = .ok (.iconst 2, 1) := by decide +kernel
theorem dL_law_203 : decode cL_law 203 = .ok (.iadd, 1) := by decide +kernel
theorem dL_law_204 : decode cL_law 204 = .ok (.iaload, 1) := by decide +kernel
theorem dL_law_205 : decode cL_law 205 = .ok (.i2d, 1) := by decide +kernel
theorem dL_law_206 : decode cL_law 206 = .ok (.ldc2_w 78, 3) := by decide +kernel
theorem dL_law_209 : decode cL_law 209 = .ok (.dmul, 1) := by decide +kernel
theorem dL_law_210 : decode cL_law 210 = .ok (.invokestatic 80, 3) := by decide +kernel
theorem dL_law_213 : decode cL_law 213 = .ok (.istore 6, 2) := by decide +kernel
theorem dL_law_215 : decode cL_law 215 = .ok (.aload_n 2, 1) := by decide +kernel
theorem dL_law_216 : decode cL_law 216 = .ok (.aload_n 0, 1) := by decide +kernel
theorem dL_law_217 : decode cL_law 217 = .ok (.iload 5, 2) := by decide +kernel
theorem dL_law_219 : decode cL_law 219 = .ok (.iconst 1, 1) := by decide +kernel
theorem dL_law_220 : decode cL_law 220 = .ok (.iadd, 1) := by decide +kernel
theorem dL_law_221 : decode cL_law 221 = .ok (.iaload, 1) := by decide +kernel
theorem dL_law_222 : decode cL_law 222 = .ok (.aload_n 0, 1) := by decide +kernel
theorem dL_law_223 : decode cL_law 223 = .ok (.iload 5, 2) := by decide +kernel
theorem dL_law_225 : decode cL_law 225 = .ok (.iconst 2, 1) := by decide +kernel
theorem dL_law_226 : decode cL_law 226 = .ok (.iadd, 1) := by decide +kernel
theorem dL_law_227 : decode cL_law 227 = .ok (.iaload, 1) := by decide +kernel
theorem dL_law_228 : decode cL_law 228 = .ok (.i2d, 1) := by decide +kernel
theorem dL_law_229 : decode cL_law 229 = .ok (.ldc2_w 78, 3) := by decide +kernel
theorem dL_law_232 : decode cL_law 232 = .ok (.dmul, 1) := by decide +kernel
theorem dL_law_233 : decode cL_law 233 = .ok (.invokevirtual 83, 3) := by decide +kernel
theorem dL_law_236 : decode cL_law 236 = .ok (.aload_n 2, 1) := by decide +kernel
theorem dL_law_237 : decode cL_law 237 = .ok (.invokevirtual 74, 3) := by decide +kernel
theorem dL_law_240 : decode cL_law 240 = .ok (.iload 6, 2) := by decide +kernel
theorem dL_law_242 : decode cL_law 242 = .ok (.if_icmp .eq 5, 3) := by decide +kernel
theorem dL_law_245 : decode cL_law 245 = .ok (.iconst 0, 1) := by decide +kernel
theorem dL_law_246 : decode cL_law 246 = .ok (.ireturn, 1) := by decide +kernel
theorem dL_law_247 : decode cL_law 247 = .ok (.goto 803, 3) := by decide +kernel
theorem dL_law_250 : decode cL_law 250 = .ok (.aload_n 1, 1) := by decide +kernel
theorem dL_law_251 : decode cL_law 251 = .ok (.aload_n 0, 1) := by decide +kernel
theorem dL_law_252 : decode cL_law 252 = .ok (.iload 5, 2) := by decide +kernel
theorem dL_law_254 : decode cL_law 254 = .ok (.iconst 1, 1) := by decide +kernel
theorem dL_law_255 : decode cL_law 255 = .ok (.iadd, 1) := by decide +kernel
theorem dL_law_256 : decode cL_law 256 = .ok (.iaload, 1) := by decide +kernel
theorem dL_law_257 : decode cL_law 257 = .ok (.aload_n 0, 1) := by decide +kernel
theorem dL_law_258 : decode cL_law 258 = .ok (.iload 5, 2) := by decide +kernel
theorem dL_law_260 : decode cL_law 260 = .ok (.iconst 2, 1) := by decide +kernel
theorem dL_law_261 : decode cL_law 261 = .ok (.iadd, 1) := by decide +kernel
theorem dL_law_262 : decode cL_law 262 = .ok (.iaload, 1) := by decide +kernel
theorem dL_law_263 : decode cL_law 263 = .ok (.aload_n 0, 1) := by decide +kernel
theorem dL_law_264 : decode cL_law 264 = .ok (.iload 5, 2) := by decide +kernel
theorem dL_law_266 : decode cL_law 266 = .ok (.iconst 3, 1) := by decide +kernel
theorem dL_law_267 : decode cL_law 267 = .ok (.iadd, 1) := by decide +kernel
theorem dL_law_268 : decode cL_law 268 = .ok (.iaload, 1) := by decide +kernel
theorem dL_law_269 : decode cL_law 269 = .ok (.aload_n 0, 1) := by decide +kernel
theorem dL_law_270 : decode cL_law 270 = .ok (.iload 5, 2) := by decide +kernel
theorem dL_law_272 : decode cL_law 272 = .ok (.iconst 4, 1) := by decide +kernel
theorem dL_law_273 : decode cL_law 273 = .ok (.iadd, 1) := by decide +kernel
theorem dL_law_274 : decode cL_law 274 = .ok (.iaload, 1) := by decide +kernel
theorem dL_law_275 : decode cL_law 275 = .ok (.i2d, 1) := by decide +kernel
theorem dL_law_276 : decode cL_law 276 = .ok (.ldc2_w 78, 3) := by decide +kernel
theorem dL_law_279 : decode cL_law 279 = .ok (.dmul, 1) := by decide +kernel
theorem dL_law_280 : decode cL_law 280 = .ok (.aload_n 3, 1) := by decide +kernel
theorem dL_law_281 : decode cL_law 281 = .ok (.invokestatic 84, 3) := by decide +kernel
theorem dL_law_284 : decode cL_law 284 = .ok (.istore 6, 2) := by decide +kernel
theorem dL_law_286 : decode cL_law 286 = .ok (.aload_n 2, 1) := by decide +kernel
theorem dL_law_287 : decode cL_law 287 = .ok (.aload_n 0, 1) := by decide +kernel
theorem dL_law_288 : decode cL_law 288 = .ok (.iload 5, 2) := by decide +kernel
theorem dL_law_290 : decode cL_law 290 = .ok (.iconst 1, 1) := by decide +kernel
theorem dL_law_291 : decode cL_law 291 = .ok (.iadd, 1) := by decide +kernel
theorem dL_law_292 : decode cL_law 292 = .ok (.iaload, 1) := by decide +kernel
theorem dL_law_293 : decode cL_law 293 = .ok (.aload_n 0, 1) := by decide +kernel
theorem dL_law_294 : decode cL_law 294 = .ok (.iload 5, 2) := by decide +kernel
theorem dL_law_296 : decode cL_law 296 = .ok (.iconst 2, 1) := by decide +kernel
theorem dL_law_297 : decode cL_law 297 = .ok (.iadd, 1) := by decide +kernel
theorem dL_law_298 : decode cL_law 298 = .ok (.iaload, 1) := by decide +kernel
theorem dL_law_299 : decode cL_law 299 = .ok (.aload_n 0, 1) := by decide +kernel
theorem dL_law_300 : decode cL_law 300 = .ok (.iload 5, 2) := by decide +kernel
theorem dL_law_302 : decode cL_law 302 = .ok (.iconst 3, 1) := by decide +kernel
theorem dL_law_303 : decode cL_law 303 = .ok (.iadd, 1) := by decide +kernel
theorem dL_law_304 : decode cL_law 304 = .ok (.iaload, 1) := by decide +kernel
theorem dL_law_305 : decode cL_law 305 = .ok (.aload_n 0, 1) := by decide +kernel
theorem dL_law_306 : decode cL_law 306 = .ok (.iload 5, 2) := by decide +kernel
theorem dL_law_308 : decode cL_law 308 = .ok (.iconst 4, 1) := by decide +kernel
theorem dL_law_309 : decode cL_law 309 = .ok (.iadd, 1) := by decide +kernel
theorem dL_law_310 : decode cL_law 310 = .ok (.iaload, 1) := by decide +kernel
theorem dL_law_311 : decode cL_law 311 = .ok (.i2d, 1) := by decide +kernel
theorem dL_law_312 : decode cL_law 312 = .ok (.ldc2_w 78, 3) := by decide +kernel
theorem dL_law_315 : decode cL_law 315 = .ok (.dmul, 1) := by decide +kernel
theorem dL_law_316 : decode cL_law 316 = .ok (.invokevirtual 87, 3) := by decide +kernel
theorem dL_law_319 : decode cL_law 319 = .ok (.istore 7, 2) := by decide +kernel
theorem dL_law_321 : decode cL_law 321 = .ok (.aload_n 2, 1) := by decide +kernel
theorem dL_law_322 : decode cL_law 322 = .ok (.invokevirtual 74, 3) := by decide +kernel
theorem dL_law_325 : decode cL_law 325 = .ok (.iload 6, 2) := by decide +kernel
theorem dL_law_327 : decode cL_law 327 = .ok (.if_icmp .eq 5, 3) := by decide +kernel
theorem dL_law_330 : decode cL_law 330 = .ok (.iconst 0, 1) := by decide +kernel
theorem dL_law_331 : decode cL_law 331 = .ok (.ireturn, 1) := by decide +kernel
theorem dL_law_332 : decode cL_law 332 = .ok (.iload 6, 2) := by decide +kernel
theorem dL_law_334 : decode cL_law 334 = .ok (.ifCond .ne 15, 3) := by decide +kernel
theorem dL_law_337 : decode cL_law 337 = .ok (.aload_n 3, 1) := by decide +kernel
theorem dL_law_338 : decode cL_law 338 = .ok (.iconst 0, 1) := by decide +kernel
theorem dL_law_339 : decode cL_law 339 = .ok (.laload, 1) := by decide +kernel
theorem dL_law_340 : decode cL_law 340 = .ok (.iload 7, 2) := by decide +kernel
theorem dL_law_342 : decode cL_law 342 = .ok (.i2l, 1) := by decide +kernel
theorem dL_law_343 : decode cL_law 343 = .ok (.lcmp, 1) := by decide +kernel
theorem dL_law_344 : decode cL_law 344 = .ok (.ifCond .eq 5, 3) := by decide +kernel
theorem dL_law_347 : decode cL_law 347 = .ok (.iconst 0, 1) := by decide +kernel
theorem dL_law_348 : decode cL_law 348 = .ok (.ireturn, 1) := by decide +kernel
theorem dL_law_349 : decode cL_law 349 = .ok (.goto 701, 3) := by decide +kernel
theorem dL_law_352 : decode cL_law 352 = .ok (.aload_n 1, 1) := by decide +kernel
theorem dL_law_353 : decode cL_law 353 = .ok (.aload_n 0, 1) := by decide +kernel
theorem dL_law_354 : decode cL_law 354 = .ok (.iload 5, 2) := by decide +kernel
theorem dL_law_356 : decode cL_law 356 = .ok (.iconst 1, 1) := by decide +kernel
theorem dL_law_357 : decode cL_law 357 = .ok (.iadd, 1) := by decide +kernel
theorem dL_law_358 : decode cL_law 358 = .ok (.iaload, 1) := by decide +kernel
theorem dL_law_359 : decode cL_law 359 = .ok (.aload_n 0, 1) := by decide +kernel
theorem dL_law_360 : decode cL_law 360 = .ok (.iload 5, 2) := by decide +kernel
theorem dL_law_362 : decode cL_law 362 = .ok (.iconst 2, 1) := by decide +kernel
theorem dL_law_363 : decode cL_law 363 = .ok (.iadd, 1) := by decide +kernel
theorem dL_law_364 : decode cL_law 364 = .ok (.iaload, 1) := by decide +kernel
theorem dL_law_365 : decode cL_law 365 = .ok (.aload_n 0, 1) := by decide +kernel
theorem dL_law_366 : decode cL_law 366 = .ok (.iload 5, 2) := by decide +kernel
theorem dL_law_368 : decode cL_law 368 = .ok (.iconst 3, 1) := by decide +kernel
theorem dL_law_369 : decode cL_law 369 = .ok (.iadd, 1) := by decide +kernel
theorem dL_law_370 : decode cL_law 370 = .ok (.iaload, 1) := by decide +kernel
theorem dL_law_371 : decode cL_law 371 = .ok (.aload_n 3, 1) := by decide +kernel
theorem dL_law_372 : decode cL_law 372 = .ok (.invokestatic 88, 3) := by decide +kernel
theorem dL_law_375 : decode cL_law 375 = .ok (.istore 6, 2) := by decide +kernel
theorem dL_law_377 : decode cL_law 377 = .ok (.aload_n 2, 1) := by decide +kernel
theorem dL_law_378 : decode cL_law 378 = .ok (.aload_n 0, 1) := by decide +kernel
theorem dL_law_379 : decode cL_law 379 = .ok (.iload 5, 2) := by decide +kernel
theorem dL_law_381 : decode cL_law 381 = .ok (.iconst 1, 1) := by decide +kernel
theorem dL_law_382 : decode cL_law 382 = .ok (.iadd, 1) := by decide +kernel
theorem dL_law_383 : decode cL_law 383 = .ok (.iaload, 1) := by decide +kernel
theorem dL_law_384 : decode cL_law 384 = .ok (.aload_n 0, 1) := by decide +kernel
theorem dL_law_385 : decode cL_law 385 = .ok (.iload 5, 2) := by decide +kernel
theorem dL_law_387 : decode cL_law 387 = .ok (.iconst 2, 1) := by decide +kernel
theorem dL_law_388 : decode cL_law 388 = .ok (.iadd, 1) := by decide +kernel
theorem dL_law_389 : decode cL_law 389 = .ok (.iaload, 1) := by decide +kernel
theorem dL_law_390 : decode cL_law 390 = .ok (.aload_n 0, 1) := by decide +kernel
theorem dL_law_391 : decode cL_law 391 = .ok (.iload 5, 2) := by decide +kernel
theorem dL_law_393 : decode cL_law 393 = .ok (.iconst 3, 1) := by decide +kernel
theorem dL_law_394 : decode cL_law 394 = .ok (.iadd, 1) := by decide +kernel
theorem dL_law_395 : decode cL_law 395 = .ok (.iaload, 1) := by decide +kernel
theorem dL_law_396 : decode cL_law 396 = .ok (.invokevirtual 90, 3) := by decide +kernel
theorem dL_law_399 : decode cL_law 399 = .ok (.istore 7, 2) := by decide +kernel
theorem dL_law_401 : decode cL_law 401 = .ok (.aload_n 2, 1) := by decide +kernel
theorem dL_law_402 : decode cL_law 402 = .ok (.invokevirtual 74, 3) := by decide +kernel
theorem dL_law_405 : decode cL_law 405 = .ok (.iload 6, 2) := by decide +kernel
theorem dL_law_407 : decode cL_law 407 = .ok (.if_icmp .eq 5, 3) := by decide +kernel
theorem dL_law_410 : decode cL_law 410 = .ok (.iconst 0, 1) := by decide +kernel
theorem dL_law_411 : decode cL_law 411 = .ok (.ireturn, 1) := by decide +kernel
theorem dL_law_412 : decode cL_law 412 = .ok (.iload 6, 2) := by decide +kernel
theorem dL_law_414 : decode cL_law 414 = .ok (.ifCond .ne 15, 3) := by decide +kernel
theorem dL_law_417 : decode cL_law 417 = .ok (.aload_n 3, 1) := by decide +kernel
theorem dL_law_418 : decode cL_law 418 = .ok (.iconst 0, 1) := by decide +kernel
theorem dL_law_419 : decode cL_law 419 = .ok (.laload, 1) := by decide +kernel
theorem dL_law_420 : decode cL_law 420 = .ok (.iload 7, 2) := by decide +kernel
theorem dL_law_422 : decode cL_law 422 = .ok (.i2l, 1) := by decide +kernel
theorem dL_law_423 : decode cL_law 423 = .ok (.lcmp, 1) := by decide +kernel
theorem dL_law_424 : decode cL_law 424 = .ok (.ifCond .eq 5, 3) := by decide +kernel
theorem dL_law_427 : decode cL_law 427 = .ok (.iconst 0, 1) := by decide +kernel
theorem dL_law_428 : decode cL_law 428 = .ok (.ireturn, 1) := by decide +kernel
theorem dL_law_429 : decode cL_law 429 = .ok (.goto 621, 3) := by decide +kernel
theorem dL_law_432 : decode cL_law 432 = .ok (.aload_n 1, 1) := by decide +kernel
theorem dL_law_433 : decode cL_law 433 = .ok (.aload_n 0, 1) := by decide +kernel
theorem dL_law_434 : decode cL_law 434 = .ok (.iload 5, 2) := by decide +kernel
theorem dL_law_436 : decode cL_law 436 = .ok (.iconst 1, 1) := by decide +kernel
theorem dL_law_437 : decode cL_law 437 = .ok (.iadd, 1) := by decide +kernel
theorem dL_law_438 : decode cL_law 438 = .ok (.iaload, 1) := by decide +kernel
theorem dL_law_439 : decode cL_law 439 = .ok (.aload_n 0, 1) := by decide +kernel
theorem dL_law_440 : decode cL_law 440 = .ok (.iload 5, 2) := by decide +kernel
theorem dL_law_442 : decode cL_law 442 = .ok (.iconst 2, 1) := by decide +kernel
theorem dL_law_443 : decode cL_law 443 = .ok (.iadd, 1) := by decide +kernel
theorem dL_law_444 : decode cL_law 444 = .ok (.iaload, 1) := by decide +kernel
theorem dL_law_445 : decode cL_law 445 = .ok (.aload_n 0, 1) := by decide +kernel
theorem dL_law_446 : decode cL_law 446 = .ok (.iload 5, 2) := by decide +kernel
theorem dL_law_448 : decode cL_law 448 = .ok (.iconst 3, 1) := by decide +kernel
theorem dL_law_449 : decode cL_law 449 = .ok (.iadd, 1) := by decide +kernel
theorem dL_law_450 : decode cL_law 450 = .ok (.iaload, 1) := by decide +kernel
theorem dL_law_451 : decode cL_law 451 = .ok (.i2d, 1) := by decide +kernel
theorem dL_law_452 : decode cL_law 452 = .ok (.ldc2_w 78, 3) := by decide +kernel
theorem dL_law_455 : decode cL_law 455 = .ok (.dmul, 1) := by decide +kernel
theorem dL_law_456 : decode cL_law 456 = .ok (.aload_n 3, 1) := by decide +kernel
theorem dL_law_457 : decode cL_law 457 = .ok (.invokestatic 91, 3) := by decide +kernel
theorem dL_law_460 : decode cL_law 460 = .ok (.istore 6, 2) := by decide +kernel
theorem dL_law_462 : decode cL_law 462 = .ok (.aload_n 2, 1) := by decide +kernel
theorem dL_law_463 : decode cL_law 463 = .ok (.aload_n 0, 1) := by decide +kernel
theorem dL_law_464 : decode cL_law 464 = .ok (.iload 5, 2) := by decide +kernel
theorem dL_law_466 : decode cL_law 466 = .ok (.iconst 1, 1) := by decide +kernel
theorem dL_law_467 : decode cL_law 467 = .ok (.iadd, 1) := by decide +kernel
theorem dL_law_468 : decode cL_law 468 = .ok (.iaload, 1) := by decide +kernel
theorem dL_law_469 : decode cL_law 469 = .ok (.aload_n 0, 1) := by decide +kernel
theorem dL_law_470 : decode cL_law 470 = .ok (.iload 5, 2) := by decide +kernel
theorem dL_law_472 : decode cL_law 472 = .ok (.iconst 2, 1) := by decide +kernel
theorem dL_law_473 : decode cL_law 473 = .ok (.iadd, 1) := by decide +kernel
theorem dL_law_474 : decode cL_law 474 = .ok (.iaload, 1) := by decide +kernel
theorem dL_law_475 : decode cL_law 475 = .ok (.aload_n 0, 1) := by decide +kernel
theorem dL_law_476 : decode cL_law 476 = .ok (.iload 5, 2) := by decide +kernel
theorem dL_law_478 : decode cL_law 478 = .ok (.iconst 3, 1) := by decide +kernel
theorem dL_law_479 : decode cL_law 479 = .ok (.iadd, 1) := by decide +kernel
theorem dL_law_480 : decode cL_law 480 = .ok (.iaload, 1) := by decide +kernel
theorem dL_law_481 : decode cL_law 481 = .ok (.i2d, 1) := by decide +kernel
theorem dL_law_482 : decode cL_law 482 = .ok (.ldc2_w 78, 3) := by decide +kernel
theorem dL_law_485 : decode cL_law 485 = .ok (.dmul, 1) := by decide +kernel
theorem dL_law_486 : decode cL_law 486 = .ok (.invokevirtual 94, 3) := by decide +kernel
theorem dL_law_489 : decode cL_law 489 = .ok (.istore 7, 2) := by decide +kernel
theorem dL_law_491 : decode cL_law 491 = .ok (.aload_n 2, 1) := by decide +kernel
theorem dL_law_492 : decode cL_law 492 = .ok (.invokevirtual 74, 3) := by decide +kernel
theorem dL_law_495 : decode cL_law 495 = .ok (.iload 6, 2) := by decide +kernel
theorem dL_law_497 : decode cL_law 497 = .ok (.if_icmp .eq 5, 3) := by decide +kernel
theorem dL_law_500 : decode cL_law 500 = .ok (.iconst 0, 1) := by decide +kernel
theorem dL_law_501 : decode cL_law 501 = .ok (.ireturn, 1) := by decide +kernel
theorem dL_law_502 : decode cL_law 502 = .ok (.iload 6, 2) := by decide +kernel
theorem dL_law_504 : decode cL_law 504 = .ok (.ifCond .ne 15, 3) := by decide +kernel
theorem dL_law_507 : decode cL_law 507 = .ok (.aload_n 3, 1) := by decide +kernel
theorem dL_law_508 : decode cL_law 508 = .ok (.iconst 0, 1) := by decide +kernel
theorem dL_law_509 : decode cL_law 509 = .ok (.laload, 1) := by decide +kernel
theorem dL_law_510 : decode cL_law 510 = .ok (.iload 7, 2) := by decide +kernel
theorem dL_law_512 : decode cL_law 512 = .ok (.i2l, 1) := by decide +kernel
theorem dL_law_513 : decode cL_law 513 = .ok (.lcmp, 1) := by decide +kernel
theorem dL_law_514 : decode cL_law 514 = .ok (.ifCond .eq 5, 3) := by decide +kernel
theorem dL_law_517 : decode cL_law 517 = .ok (.iconst 0, 1) := by decide +kernel
theorem dL_law_518 : decode cL_law 518 = .ok (.ireturn, 1) := by decide +kernel
theorem dL_law_519 : decode cL_law 519 = .ok (.goto 531, 3) := by decide +kernel
theorem dL_law_522 : decode cL_law 522 = .ok (.aload_n 1, 1) := by decide +kernel
theorem dL_law_523 : decode cL_law 523 = .ok (.aload_n 0, 1) := by decide +kernel
theorem dL_law_524 : decode cL_law 524 = .ok (.iload 5, 2) := by decide +kernel
theorem dL_law_526 : decode cL_law 526 = .ok (.iconst 1, 1) := by decide +kernel
theorem dL_law_527 : decode cL_law 527 = .ok (.iadd, 1) := by decide +kernel
theorem dL_law_528 : decode cL_law 528 = .ok (.iaload, 1) := by decide +kernel
theorem dL_law_529 : decode cL_law 529 = .ok (.aload_n 0, 1) := by decide +kernel
theorem dL_law_530 : decode cL_law 530 = .ok (.iload 5, 2) := by decide +kernel
theorem dL_law_532 : decode cL_law 532 = .ok (.iconst 2, 1) := by decide +kernel
theorem dL_law_533 : decode cL_law 533 = .ok (.iadd, 1) := by decide +kernel
theorem dL_law_534 : decode cL_law 534 = .ok (.iaload, 1) := by decide +kernel
theorem dL_law_535 : decode cL_law 535 = .ok (.aload_n 0, 1) := by decide +kernel
theorem dL_law_536 : decode cL_law 536 = .ok (.iload 5, 2) := by decide +kernel
theorem dL_law_538 : decode cL_law 538 = .ok (.iconst 3, 1) := by decide +kernel
theorem dL_law_539 : decode cL_law 539 = .ok (.iadd, 1) := by decide +kernel
theorem dL_law_540 : decode cL_law 540 = .ok (.iaload, 1) := by decide +kernel
theorem dL_law_541 : decode cL_law 541 = .ok (.ifCond .eq 7, 3) := by decide +kernel
theorem dL_law_544 : decode cL_law 544 = .ok (.iconst 1, 1) := by decide +kernel
theorem dL_law_545 : decode cL_law 545 = .ok (.goto 4, 3) := by decide +kernel
theorem dL_law_548 : decode cL_law 548 = .ok (.iconst 0, 1) := by decide +kernel
theorem dL_law_549 : decode cL_law 549 = .ok (.aload_n 3, 1) := by decide +kernel
theorem dL_law_550 : decode cL_law 550 = .ok (.invokestatic 95, 3) := by decide +kernel
theorem dL_law_553 : decode cL_law 553 = .ok (.istore 6, 2) := by decide +kernel
theorem dL_law_555 : decode cL_law 555 = .ok (.aload_n 2, 1) := by decide +kernel
theorem dL_law_556 : decode cL_law 556 = .ok (.aload_n 0, 1) := by decide +kernel
theorem dL_law_557 : decode cL_law 557 = .ok (.iload 5, 2) := by decide +kernel
theorem dL_law_559 : decode cL_law 559 = .ok (.iconst 1, 1) := by decide +kernel
theorem dL_law_560 : decode cL_law 560 = .ok (.iadd, 1) := by decide +kernel
theorem dL_law_561 : decode cL_law 561 = .ok (.iaload, 1) := by decide +kernel
theorem dL_law_562 : decode cL_law 562 = .ok (.aload_n 0, 1) := by decide +kernel
theorem dL_law_563 : decode cL_law 563 = .ok (.iload 5, 2) := by decide +kernel
theorem dL_law_565 : decode cL_law 565 = .ok (.iconst 2, 1) := by decide +kernel
theorem dL_law_566 : decode cL_law 566 = .ok (.iadd, 1) := by decide +kernel
theorem dL_law_567 : decode cL_law 567 = .ok (.iaload, 1) := by decide +kernel
theorem dL_law_568 : decode cL_law 568 = .ok (.aload_n 0, 1) := by decide +kernel
theorem dL_law_569 : decode cL_law 569 = .ok (.iload 5, 2) := by decide +kernel
theorem dL_law_571 : decode cL_law 571 = .ok (.iconst 3, 1) := by decide +kernel
theorem dL_law_572 : decode cL_law 572 = .ok (.iadd, 1) := by decide +kernel
theorem dL_law_573 : decode cL_law 573 = .ok (.iaload, 1) := by decide +kernel
theorem dL_law_574 : decode cL_law 574 = .ok (.ifCond .eq 7, 3) := by decide +kernel
theorem dL_law_577 : decode cL_law 577 = .ok (.iconst 1, 1) := by decide +kernel
theorem dL_law_578 : decode cL_law 578 = .ok (.goto 4, 3) := by decide +kernel
theorem dL_law_581 : decode cL_law 581 = .ok (.iconst 0, 1) := by decide +kernel
theorem dL_law_582 : decode cL_law 582 = .ok (.invokevirtual 98, 3) := by decide +kernel
theorem dL_law_585 : decode cL_law 585 = .ok (.istore 7, 2) := by decide +kernel
theorem dL_law_587 : decode cL_law 587 = .ok (.aload_n 2, 1) := by decide +kernel
theorem dL_law_588 : decode cL_law 588 = .ok (.invokevirtual 74, 3) := by decide +kernel
theorem dL_law_591 : decode cL_law 591 = .ok (.iload 6, 2) := by decide +kernel
theorem dL_law_593 : decode cL_law 593 = .ok (.if_icmp .eq 5, 3) := by decide +kernel
theorem dL_law_596 : decode cL_law 596 = .ok (.iconst 0, 1) := by decide +kernel
theorem dL_law_597 : decode cL_law 597 = .ok (.ireturn, 1) := by decide +kernel
theorem dL_law_598 : decode cL_law 598 = .ok (.iload 6, 2) := by decide +kernel
theorem dL_law_600 : decode cL_law 600 = .ok (.ifCond .ne 15, 3) := by decide +kernel
theorem dL_law_603 : decode cL_law 603 = .ok (.aload_n 3, 1) := by decide +kernel
theorem dL_law_604 : decode cL_law 604 = .ok (.iconst 0, 1) := by decide +kernel
theorem dL_law_605 : decode cL_law 605 = .ok (.laload, 1) := by decide +kernel
theorem dL_law_606 : decode cL_law 606 = .ok (.iload 7, 2) := by decide +kernel
theorem dL_law_608 : decode cL_law 608 = .ok (.i2l, 1) := by decide +kernel
theorem dL_law_609 : decode cL_law 609 = .ok (.lcmp, 1) := by decide +kernel
theorem dL_law_610 : decode cL_law 610 = .ok (.ifCond .eq 5, 3) := by decide +kernel
theorem dL_law_613 : decode cL_law 613 = .ok (.iconst 0, 1) := by decide +kernel
theorem dL_law_614 : decode cL_law 614 = .ok (.ireturn, 1) := by decide +kernel
theorem dL_law_615 : decode cL_law 615 = .ok (.goto 435, 3) := by decide +kernel
theorem dL_law_618 : decode cL_law 618 = .ok (.aload_n 1, 1) := by decide +kernel
theorem dL_law_619 : decode cL_law 619 = .ok (.aload_n 0, 1) := by decide +kernel
theorem dL_law_620 : decode cL_law 620 = .ok (.iload 5, 2) := by decide +kernel
theorem dL_law_622 : decode cL_law 622 = .ok (.iconst 1, 1) := by decide +kernel
theorem dL_law_623 : decode cL_law 623 = .ok (.iadd, 1) := by decide +kernel
theorem dL_law_624 : decode cL_law 624 = .ok (.iaload, 1) := by decide +kernel
theorem dL_law_625 : decode cL_law 625 = .ok (.aload_n 3, 1) := by decide +kernel
theorem dL_law_626 : decode cL_law 626 = .ok (.invokestatic 99, 3) := by decide +kernel
theorem dL_law_629 : decode cL_law 629 = .ok (.istore 6, 2) := by decide +kernel
theorem dL_law_631 : decode cL_law 631 = .ok (.aload_n 2, 1) := by decide +kernel
theorem dL_law_632 : decode cL_law 632 = .ok (.aload_n 0, 1) := by decide +kernel
theorem dL_law_633 : decode cL_law 633 = .ok (.iload 5, 2) := by decide +kernel
theorem dL_law_635 : decode cL_law 635 = .ok (.iconst 1, 1) := by decide +kernel
theorem dL_law_636 : decode cL_law 636 = .ok (.iadd, 1) := by decide +kernel
theorem dL_law_637 : decode cL_law 637 = .ok (.iaload, 1) := by decide +kernel
theorem dL_law_638 : decode cL_law 638 = .ok (.invokevirtual 102, 3) := by decide +kernel
theorem dL_law_641 : decode cL_law 641 = .ok (.istore 7, 2) := by decide +kernel
theorem dL_law_643 : decode cL_law 643 = .ok (.aload_n 2, 1) := by decide +kernel
theorem dL_law_644 : decode cL_law 644 = .ok (.invokevirtual 74, 3) := by decide +kernel
theorem dL_law_647 : decode cL_law 647 = .ok (.iload 6, 2) := by decide +kernel
theorem dL_law_649 : decode cL_law 649 = .ok (.if_icmp .eq 5, 3) := by decide +kernel
theorem dL_law_652 : decode cL_law 652 = .ok (.iconst 0, 1) := by decide +kernel
theorem dL_law_653 : decode cL_law 653 = .ok (.ireturn, 1) := by decide +kernel
theorem dL_law_654 : decode cL_law 654 = .ok (.iload 6, 2) := by decide +kernel
theorem dL_law_656 : decode cL_law 656 = .ok (.ifCond .ne 15, 3) := by decide +kernel
theorem dL_law_659 : decode cL_law 659 = .ok (.aload_n 3, 1) := by decide +kernel
theorem dL_law_660 : decode cL_law 660 = .ok (.iconst 0, 1) := by decide +kernel
theorem dL_law_661 : decode cL_law 661 = .ok (.laload, 1) := by decide +kernel
theorem dL_law_662 : decode cL_law 662 = .ok (.iload 7, 2) := by decide +kernel
theorem dL_law_664 : decode cL_law 664 = .ok (.i2l, 1) := by decide +kernel
theorem dL_law_665 : decode cL_law 665 = .ok (.lcmp, 1) := by decide +kernel
theorem dL_law_666 : decode cL_law 666 = .ok (.ifCond .eq 5, 3) := by decide +kernel
theorem dL_law_669 : decode cL_law 669 = .ok (.iconst 0, 1) := by decide +kernel
theorem dL_law_670 : decode cL_law 670 = .ok (.ireturn, 1) := by decide +kernel
theorem dL_law_671 : decode cL_law 671 = .ok (.goto 379, 3) := by decide +kernel
theorem dL_law_674 : decode cL_law 674 = .ok (.aload_n 1, 1) := by decide +kernel
theorem dL_law_675 : decode cL_law 675 = .ok (.aload_n 0, 1) := by decide +kernel
theorem dL_law_676 : decode cL_law 676 = .ok (.iload 5, 2) := by decide +kernel
theorem dL_law_678 : decode cL_law 678 = .ok (.iconst 1, 1) := by decide +kernel
theorem dL_law_679 : decode cL_law 679 = .ok (.iadd, 1) := by decide +kernel
theorem dL_law_680 : decode cL_law 680 = .ok (.iaload, 1) := by decide +kernel
theorem dL_law_681 : decode cL_law 681 = .ok (.i2d, 1) := by decide +kernel
theorem dL_law_682 : decode cL_law 682 = .ok (.ldc2_w 78, 3) := by decide +kernel
theorem dL_law_685 : decode cL_law 685 = .ok (.dmul, 1) := by decide +kernel
theorem dL_law_686 : decode cL_law 686 = .ok (.aload_n 3, 1) := by decide +kernel
theorem dL_law_687 : decode cL_law 687 = .ok (.invokestatic 103, 3) := by decide +kernel
theorem dL_law_690 : decode cL_law 690 = .ok (.istore 6, 2) := by decide +kernel
theorem dL_law_692 : decode cL_law 692 = .ok (.aload_n 2, 1) := by decide +kernel
theorem dL_law_693 : decode cL_law 693 = .ok (.aload_n 0, 1) := by decide +kernel
theorem dL_law_694 : decode cL_law 694 = .ok (.iload 5, 2) := by decide +kernel
theorem dL_law_696 : decode cL_law 696 = .ok (.iconst 1, 1) := by decide +kernel
theorem dL_law_697 : decode cL_law 697 = .ok (.iadd, 1) := by decide +kernel
theorem dL_law_698 : decode cL_law 698 = .ok (.iaload, 1) := by decide +kernel
theorem dL_law_699 : decode cL_law 699 = .ok (.i2d, 1) := by decide +kernel
theorem dL_law_700 : decode cL_law 700 = .ok (.ldc2_w 78, 3) := by decide +kernel
theorem dL_law_703 : decode cL_law 703 = .ok (.dmul, 1) := by decide +kernel
theorem dL_law_704 : decode cL_law 704 = .ok (.invokevirtual 106, 3) := by decide +kernel
theorem dL_law_707 : decode cL_law 707 = .ok (.istore 7, 2) := by decide +kernel
theorem dL_law_709 : decode cL_law 709 = .ok (.aload_n 2, 1) := by decide +kernel
theorem dL_law_710 : decode cL_law 710 = .ok (.invokevirtual 74, 3) := by decide +kernel
theorem dL_law_713 : decode cL_law 713 = .ok (.iload 6, 2) := by decide +kernel
theorem dL_law_715 : decode cL_law 715 = .ok (.if_icmp .eq 5, 3) := by decide +kernel
theorem dL_law_718 : decode cL_law 718 = .ok (.iconst 0, 1) := by decide +kernel
theorem dL_law_719 : decode cL_law 719 = .ok (.ireturn, 1) := by decide +kernel
theorem dL_law_720 : decode cL_law 720 = .ok (.iload 6, 2) := by decide +kernel
theorem dL_law_722 : decode cL_law 722 = .ok (.ifCond .ne 15, 3) := by decide +kernel
theorem dL_law_725 : decode cL_law 725 = .ok (.aload_n 3, 1) := by decide +kernel
theorem dL_law_726 : decode cL_law 726 = .ok (.iconst 0, 1) := by decide +kernel
theorem dL_law_727 : decode cL_law 727 = .ok (.laload, 1) := by decide +kernel
theorem dL_law_728 : decode cL_law 728 = .ok (.iload 7, 2) := by decide +kernel
theorem dL_law_730 : decode cL_law 730 = .ok (.i2l, 1) := by decide +kernel
theorem dL_law_731 : decode cL_law 731 = .ok (.lcmp, 1) := by decide +kernel
theorem dL_law_732 : decode cL_law 732 = .ok (.ifCond .eq 5, 3) := by decide +kernel
theorem dL_law_735 : decode cL_law 735 = .ok (.iconst 0, 1) := by decide +kernel
theorem dL_law_736 : decode cL_law 736 = .ok (.ireturn, 1) := by decide +kernel
theorem dL_law_737 : decode cL_law 737 = .ok (.goto 313, 3) := by decide +kernel
theorem dL_law_740 : decode cL_law 740 = .ok (.aload_n 1, 1) := by decide +kernel
theorem dL_law_741 : decode cL_law 741 = .ok (.aload_n 0, 1) := by decide +kernel
theorem dL_law_742 : decode cL_law 742 = .ok (.iload 5, 2) := by decide +kernel
theorem dL_law_744 : decode cL_law 744 = .ok (.iconst 1, 1) := by decide +kernel
theorem dL_law_745 : decode cL_law 745 = .ok (.iadd, 1) := by decide +kernel
theorem dL_law_746 : decode cL_law 746 = .ok (.iaload, 1) := by decide +kernel
theorem dL_law_747 : decode cL_law 747 = .ok (.aload_n 3, 1) := by decide +kernel
theorem dL_law_748 : decode cL_law 748 = .ok (.invokestatic 107, 3) := by decide +kernel
theorem dL_law_751 : decode cL_law 751 = .ok (.istore 6, 2) := by decide +kernel
theorem dL_law_753 : decode cL_law 753 = .ok (.aload_n 2, 1) := by decide +kernel
theorem dL_law_754 : decode cL_law 754 = .ok (.aload_n 0, 1) := by decide +kernel
theorem dL_law_755 : decode cL_law 755 = .ok (.iload 5, 2) := by decide +kernel
theorem dL_law_757 : decode cL_law 757 = .ok (.iconst 1, 1) := by decide +kernel
theorem dL_law_758 : decode cL_law 758 = .ok (.iadd, 1) := by decide +kernel
theorem dL_law_759 : decode cL_law 759 = .ok (.iaload, 1) := by decide +kernel
theorem dL_law_760 : decode cL_law 760 = .ok (.invokevirtual 109, 3) := by decide +kernel
theorem dL_law_763 : decode cL_law 763 = .ok (.istore 7, 2) := by decide +kernel
theorem dL_law_765 : decode cL_law 765 = .ok (.aload_n 2, 1) := by decide +kernel
theorem dL_law_766 : decode cL_law 766 = .ok (.invokevirtual 74, 3) := by decide +kernel
theorem dL_law_769 : decode cL_law 769 = .ok (.iload 6, 2) := by decide +kernel
theorem dL_law_771 : decode cL_law 771 = .ok (.if_icmp .eq 5, 3) := by decide +kernel
theorem dL_law_774 : decode cL_law 774 = .ok (.iconst 0, 1) := by decide +kernel
theorem dL_law_775 : decode cL_law 775 = .ok (.ireturn, 1) := by decide +kernel
theorem dL_law_776 : decode cL_law 776 = .ok (.iload 6, 2) := by decide +kernel
theorem dL_law_778 : decode cL_law 778 = .ok (.ifCond .ne 15, 3) := by decide +kernel
theorem dL_law_781 : decode cL_law 781 = .ok (.aload_n 3, 1) := by decide +kernel
theorem dL_law_782 : decode cL_law 782 = .ok (.iconst 0, 1) := by decide +kernel
theorem dL_law_783 : decode cL_law 783 = .ok (.laload, 1) := by decide +kernel
theorem dL_law_784 : decode cL_law 784 = .ok (.iload 7, 2) := by decide +kernel
theorem dL_law_786 : decode cL_law 786 = .ok (.i2l, 1) := by decide +kernel
theorem dL_law_787 : decode cL_law 787 = .ok (.lcmp, 1) := by decide +kernel
theorem dL_law_788 : decode cL_law 788 = .ok (.ifCond .eq 5, 3) := by decide +kernel
theorem dL_law_791 : decode cL_law 791 = .ok (.iconst 0, 1) := by decide +kernel
theorem dL_law_792 : decode cL_law 792 = .ok (.ireturn, 1) := by decide +kernel
theorem dL_law_793 : decode cL_law 793 = .ok (.goto 257, 3) := by decide +kernel
theorem dL_law_796 : decode cL_law 796 = .ok (.aload_n 1, 1) := by decide +kernel
theorem dL_law_797 : decode cL_law 797 = .ok (.aload_n 0, 1) := by decide +kernel
theorem dL_law_798 : decode cL_law 798 = .ok (.iload 5, 2) := by decide +kernel
theorem dL_law_800 : decode cL_law 800 = .ok (.iconst 1, 1) := by decide +kernel
theorem dL_law_801 : decode cL_law 801 = .ok (.iadd, 1) := by decide +kernel
theorem dL_law_802 : decode cL_law 802 = .ok (.iaload, 1) := by decide +kernel
theorem dL_law_803 : decode cL_law 803 = .ok (.aload_n 0, 1) := by decide +kernel
theorem dL_law_804 : decode cL_law 804 = .ok (.iload 5, 2) := by decide +kernel
theorem dL_law_806 : decode cL_law 806 = .ok (.iconst 2, 1) := by decide +kernel
theorem dL_law_807 : decode cL_law 807 = .ok (.iadd, 1) := by decide +kernel
theorem dL_law_808 : decode cL_law 808 = .ok (.iaload, 1) := by decide +kernel
theorem dL_law_809 : decode cL_law 809 = .ok (.aload_n 3, 1) := by decide +kernel
theorem dL_law_810 : decode cL_law 810 = .ok (.invokestatic 110, 3) := by decide +kernel
theorem dL_law_813 : decode cL_law 813 = .ok (.istore 6, 2) := by decide +kernel
theorem dL_law_815 : decode cL_law 815 = .ok (.aload_n 2, 1) := by decide +kernel
theorem dL_law_816 : decode cL_law 816 = .ok (.aload_n 0, 1) := by decide +kernel
theorem dL_law_817 : decode cL_law 817 = .ok (.iload 5, 2) := by decide +kernel
theorem dL_law_819 : decode cL_law 819 = .ok (.iconst 1, 1) := by decide +kernel
theorem dL_law_820 : decode cL_law 820 = .ok (.iadd, 1) := by decide +kernel
theorem dL_law_821 : decode cL_law 821 = .ok (.iaload, 1) := by decide +kernel
theorem dL_law_822 : decode cL_law 822 = .ok (.aload_n 0, 1) := by decide +kernel
theorem dL_law_823 : decode cL_law 823 = .ok (.iload 5, 2) := by decide +kernel
theorem dL_law_825 : decode cL_law 825 = .ok (.iconst 2, 1) := by decide +kernel
theorem dL_law_826 : decode cL_law 826 = .ok (.iadd, 1) := by decide +kernel
theorem dL_law_827 : decode cL_law 827 = .ok (.iaload, 1) := by decide +kernel
theorem dL_law_828 : decode cL_law 828 = .ok (.invokevirtual 113, 3) := by decide +kernel
theorem dL_law_831 : decode cL_law 831 = .ok (.istore 7, 2) := by decide +kernel
theorem dL_law_833 : decode cL_law 833 = .ok (.aload_n 2, 1) := by decide +kernel
theorem dL_law_834 : decode cL_law 834 = .ok (.invokevirtual 74, 3) := by decide +kernel
theorem dL_law_837 : decode cL_law 837 = .ok (.iload 6, 2) := by decide +kernel
theorem dL_law_839 : decode cL_law 839 = .ok (.if_icmp .eq 5, 3) := by decide +kernel
theorem dL_law_842 : decode cL_law 842 = .ok (.iconst 0, 1) := by decide +kernel
theorem dL_law_843 : decode cL_law 843 = .ok (.ireturn, 1) := by decide +kernel
theorem dL_law_844 : decode cL_law 844 = .ok (.iload 6, 2) := by decide +kernel
theorem dL_law_846 : decode cL_law 846 = .ok (.ifCond .ne 15, 3) := by decide +kernel
theorem dL_law_849 : decode cL_law 849 = .ok (.aload_n 3, 1) := by decide +kernel
theorem dL_law_850 : decode cL_law 850 = .ok (.iconst 0, 1) := by decide +kernel
theorem dL_law_851 : decode cL_law 851 = .ok (.laload, 1) := by decide +kernel
theorem dL_law_852 : decode cL_law 852 = .ok (.iload 7, 2) := by decide +kernel
theorem dL_law_854 : decode cL_law 854 = .ok (.i2l, 1) := by decide +kernel
theorem dL_law_855 : decode cL_law 855 = .ok (.lcmp, 1) := by decide +kernel
theorem dL_law_856 : decode cL_law 856 = .ok (.ifCond .eq 5, 3) := by decide +kernel
theorem dL_law_859 : decode cL_law 859 = .ok (.iconst 0, 1) := by decide +kernel
theorem dL_law_860 : decode cL_law 860 = .ok (.ireturn, 1) := by decide +kernel
theorem dL_law_861 : decode cL_law 861 = .ok (.goto 189, 3) := by decide +kernel
theorem dL_law_864 : decode cL_law 864 = .ok (.aload_n 1, 1) := by decide +kernel
theorem dL_law_865 : decode cL_law 865 = .ok (.aload_n 0, 1) := by decide +kernel
theorem dL_law_866 : decode cL_law 866 = .ok (.iload 5, 2) := by decide +kernel
theorem dL_law_868 : decode cL_law 868 = .ok (.iconst 1, 1) := by decide +kernel
theorem dL_law_869 : decode cL_law 869 = .ok (.iadd, 1) := by decide +kernel
theorem dL_law_870 : decode cL_law 870 = .ok (.iaload, 1) := by decide +kernel
theorem dL_law_871 : decode cL_law 871 = .ok (.aload_n 0, 1) := by decide +kernel
theorem dL_law_872 : decode cL_law 872 = .ok (.iload 5, 2) := by decide +kernel
theorem dL_law_874 : decode cL_law 874 = .ok (.iconst 2, 1) := by decide +kernel
theorem dL_law_875 : decode cL_law 875 = .ok (.iadd, 1) := by decide +kernel
theorem dL_law_876 : decode cL_law 876 = .ok (.iaload, 1) := by decide +kernel
theorem dL_law_877 : decode cL_law 877 = .ok (.aload_n 3, 1) := by decide +kernel
theorem dL_law_878 : decode cL_law 878 = .ok (.invokestatic 114, 3) := by decide +kernel
theorem dL_law_881 : decode cL_law 881 = .ok (.istore 6, 2) := by decide +kernel
theorem dL_law_883 : decode cL_law 883 = .ok (.aload_n 2, 1) := by decide +kernel
theorem dL_law_884 : decode cL_law 884 = .ok (.aload_n 0, 1) := by decide +kernel
theorem dL_law_885 : decode cL_law 885 = .ok (.iload 5, 2) := by decide +kernel
theorem dL_law_887 : decode cL_law 887 = .ok (.iconst 1, 1) := by decide +kernel
theorem dL_law_888 : decode cL_law 888 = .ok (.iadd, 1) := by decide +kernel
theorem dL_law_889 : decode cL_law 889 = .ok (.iaload, 1) := by decide +kernel
theorem dL_law_890 : decode cL_law 890 = .ok (.aload_n 0, 1) := by decide +kernel
theorem dL_law_891 : decode cL_law 891 = .ok (.iload 5, 2) := by decide +kernel
theorem dL_law_893 : decode cL_law 893 = .ok (.iconst 2, 1) := by decide +kernel
theorem dL_law_894 : decode cL_law 894 = .ok (.iadd, 1) := by decide +kernel
theorem dL_law_895 : decode cL_law 895 = .ok (.iaload, 1) := by decide +kernel
theorem dL_law_896 : decode cL_law 896 = .ok (.invokevirtual 116, 3) := by decide +kernel
theorem dL_law_899 : decode cL_law 899 = .ok (.istore 7, 2) := by decide +kernel
theorem dL_law_901 : decode cL_law 901 = .ok (.aload_n 2, 1) := by decide +kernel
theorem dL_law_902 : decode cL_law 902 = .ok (.invokevirtual 74, 3) := by decide +kernel
theorem dL_law_905 : decode cL_law 905 = .ok (.iload 6, 2) := by decide +kernel
theorem dL_law_907 : decode cL_law 907 = .ok (.if_icmp .eq 5, 3) := by decide +kernel
theorem dL_law_910 : decode cL_law 910 = .ok (.iconst 0, 1) := by decide +kernel
theorem dL_law_911 : decode cL_law 911 = .ok (.ireturn, 1) := by decide +kernel
theorem dL_law_912 : decode cL_law 912 = .ok (.iload 6, 2) := by decide +kernel
theorem dL_law_914 : decode cL_law 914 = .ok (.ifCond .ne 15, 3) := by decide +kernel
theorem dL_law_917 : decode cL_law 917 = .ok (.aload_n 3, 1) := by decide +kernel
theorem dL_law_918 : decode cL_law 918 = .ok (.iconst 0, 1) := by decide +kernel
theorem dL_law_919 : decode cL_law 919 = .ok (.laload, 1) := by decide +kernel
theorem dL_law_920 : decode cL_law 920 = .ok (.iload 7, 2) := by decide +kernel
theorem dL_law_922 : decode cL_law 922 = .ok (.i2l, 1) := by decide +kernel
theorem dL_law_923 : decode cL_law 923 = .ok (.lcmp, 1) := by decide +kernel
theorem dL_law_924 : decode cL_law 924 = .ok (.ifCond .eq 5, 3) := by decide +kernel
theorem dL_law_927 : decode cL_law 927 = .ok (.iconst 0, 1) := by decide +kernel
theorem dL_law_928 : decode cL_law 928 = .ok (.ireturn, 1) := by decide +kernel
theorem dL_law_929 : decode cL_law 929 = .ok (.goto 121, 3) := by decide +kernel
theorem dL_law_932 : decode cL_law 932 = .ok (.aload_n 1, 1) := by decide +kernel
theorem dL_law_933 : decode cL_law 933 = .ok (.aload_n 0, 1) := by decide +kernel
theorem dL_law_934 : decode cL_law 934 = .ok (.iload 5, 2) := by decide +kernel
theorem dL_law_936 : decode cL_law 936 = .ok (.iconst 1, 1) := by decide +kernel
theorem dL_law_937 : decode cL_law 937 = .ok (.iadd, 1) := by decide +kernel
theorem dL_law_938 : decode cL_law 938 = .ok (.iaload, 1) := by decide +kernel
theorem dL_law_939 : decode cL_law 939 = .ok (.aload 4, 2) := by decide +kernel
theorem dL_law_941 : decode cL_law 941 = .ok (.invokestatic 117, 3) := by decide +kernel
theorem dL_law_944 : decode cL_law 944 = .ok (.istore 6, 2) := by decide +kernel
theorem dL_law_946 : decode cL_law 946 = .ok (.aload_n 2, 1) := by decide +kernel
theorem dL_law_947 : decode cL_law 947 = .ok (.aload_n 0, 1) := by decide +kernel
theorem dL_law_948 : decode cL_law 948 = .ok (.iload 5, 2) := by decide +kernel
theorem dL_law_950 : decode cL_law 950 = .ok (.iconst 1, 1) := by decide +kernel
theorem dL_law_951 : decode cL_law 951 = .ok (.iadd, 1) := by decide +kernel
theorem dL_law_952 : decode cL_law 952 = .ok (.iaload, 1) := by decide +kernel
theorem dL_law_953 : decode cL_law 953 = .ok (.invokevirtual 120, 3) := by decide +kernel
theorem dL_law_956 : decode cL_law 956 = .ok (.dstore 7, 2) := by decide +kernel
theorem dL_law_958 : decode cL_law 958 = .ok (.aload_n 2, 1) := by decide +kernel
theorem dL_law_959 : decode cL_law 959 = .ok (.invokevirtual 74, 3) := by decide +kernel
theorem dL_law_962 : decode cL_law 962 = .ok (.iload 6, 2) := by decide +kernel
theorem dL_law_964 : decode cL_law 964 = .ok (.if_icmp .eq 5, 3) := by decide +kernel
theorem dL_law_967 : decode cL_law 967 = .ok (.iconst 0, 1) := by decide +kernel
theorem dL_law_968 : decode cL_law 968 = .ok (.ireturn, 1) := by decide +kernel
theorem dL_law_969 : decode cL_law 969 = .ok (.iload 6, 2) := by decide +kernel
theorem dL_law_971 : decode cL_law 971 = .ok (.ifCond .ne 35, 3) := by decide +kernel
theorem dL_law_974 : decode cL_law 974 = .ok (.aload 4, 2) := by decide +kernel
theorem dL_law_976 : decode cL_law 976 = .ok (.iconst 0, 1) := by decide +kernel
theorem dL_law_977 : decode cL_law 977 = .ok (.daload, 1) := by decide +kernel
theorem dL_law_978 : decode cL_law 978 = .ok (.dload 7, 2) := by decide +kernel
theorem dL_law_980 : decode cL_law 980 = .ok (.dcmp .l, 1) := by decide +kernel
theorem dL_law_981 : decode cL_law 981 = .ok (.ifCond .eq 25, 3) := by decide +kernel
theorem dL_law_984 : decode cL_law 984 = .ok (.aload 4, 2) := by decide +kernel
theorem dL_law_986 : decode cL_law 986 = .ok (.iconst 0, 1) := by decide +kernel
theorem dL_law_987 : decode cL_law 987 = .ok (.daload, 1) := by decide +kernel
theorem dL_law_988 : decode cL_law 988 = .ok (.aload 4, 2) := by decide +kernel
theorem dL_law_990 : decode cL_law 990 = .ok (.iconst 0, 1) := by decide +kernel
theorem dL_law_991 : decode cL_law 991 = .ok (.daload, 1) := by decide +kernel
theorem dL_law_992 : decode cL_law 992 = .ok (.dcmp .l, 1) := by decide +kernel
theorem dL_law_993 : decode cL_law 993 = .ok (.ifCond .eq 11, 3) := by decide +kernel
theorem dL_law_996 : decode cL_law 996 = .ok (.dload 7, 2) := by decide +kernel
theorem dL_law_998 : decode cL_law 998 = .ok (.dload 7, 2) := by decide +kernel
theorem dL_law_1000 : decode cL_law 1000 = .ok (.dcmp .l, 1) := by decide +kernel
theorem dL_law_1001 : decode cL_law 1001 = .ok (.ifCond .ne 5, 3) := by decide +kernel
theorem dL_law_1004 : decode cL_law 1004 = .ok (.iconst 0, 1) := by decide +kernel
theorem dL_law_1005 : decode cL_law 1005 = .ok (.ireturn, 1) := by decide +kernel
theorem dL_law_1006 : decode cL_law 1006 = .ok (.goto 44, 3) := by decide +kernel
theorem dL_law_1009 : decode cL_law 1009 = .ok (.aload_n 1, 1) := by decide +kernel
theorem dL_law_1010 : decode cL_law 1010 = .ok (.invokevirtual 121, 3) := by decide +kernel
theorem dL_law_1013 : decode cL_law 1013 = .ok (.dstore 6, 2) := by decide +kernel
theorem dL_law_1015 : decode cL_law 1015 = .ok (.aload_n 2, 1) := by decide +kernel
theorem dL_law_1016 : decode cL_law 1016 = .ok (.invokevirtual 125, 3) := by decide +kernel
theorem dL_law_1019 : decode cL_law 1019 = .ok (.dstore 8, 2) := by decide +kernel
theorem dL_law_1021 : decode cL_law 1021 = .ok (.dload 6, 2) := by decide +kernel
theorem dL_law_1023 : decode cL_law 1023 = .ok (.dload 8, 2) := by decide +kernel
theorem dL_law_1025 : decode cL_law 1025 = .ok (.dcmp .l, 1) := by decide +kernel
theorem dL_law_1026 : decode cL_law 1026 = .ok (.ifCond .eq 21, 3) := by decide +kernel
theorem dL_law_1029 : decode cL_law 1029 = .ok (.dload 6, 2) := by decide +kernel
theorem dL_law_1031 : decode cL_law 1031 = .ok (.dload 6, 2) := by decide +kernel
theorem dL_law_1033 : decode cL_law 1033 = .ok (.dcmp .l, 1) := by decide +kernel
theorem dL_law_1034 : decode cL_law 1034 = .ok (.ifCond .eq 11, 3) := by decide +kernel
theorem dL_law_1037 : decode cL_law 1037 = .ok (.dload 8, 2) := by decide +kernel
theorem dL_law_1039 : decode cL_law 1039 = .ok (.dload 8, 2) := by decide +kernel
theorem dL_law_1041 : decode cL_law 1041 = .ok (.dcmp .l, 1) := by decide +kernel
theorem dL_law_1042 : decode cL_law 1042 = .ok (.ifCond .ne 5, 3) := by decide +kernel
theorem dL_law_1045 : decode cL_law 1045 = .ok (.iconst 0, 1) := by decide +kernel
theorem dL_law_1046 : decode cL_law 1046 = .ok (.ireturn, 1) := by decide +kernel
theorem dL_law_1047 : decode cL_law 1047 = .ok (.goto 3, 3) := by decide +kernel
theorem dL_law_1050 : decode cL_law 1050 = .ok (.iinc 5 5, 3) := by decide +kernel
theorem dL_law_1053 : decode cL_law 1053 = .ok (.goto (-1025), 3) := by decide +kernel
theorem dL_law_1056 : decode cL_law 1056 = .ok (.iconst 1, 1) := by decide +kernel
theorem dL_law_1057 : decode cL_law 1057 = .ok (.ireturn, 1) := by decide +kernel
