section
/-! the law's own entry -/
set_option maxRecDepth 100000
abbrev cL_law : ByteArray := code
theorem dL_law_0 : decode cL_law 0 = .ok (.new 8, 3) := by decide +kernel
theorem dL_law_3 : decode cL_law 3 = .ok (.dup, 1) := by decide +kernel
theorem dL_law_4 : decode cL_law 4 = .ok (.invokespecial 67, 3) := by decide +kernel
theorem dL_law_7 : decode cL_law 7 = .ok (.astore_n 1, 1) := by decide +kernel
theorem dL_law_8 : decode cL_law 8 = .ok (.new 68, 3) := by decide +kernel
theorem dL_law_11 : decode cL_law 11 = .ok (.dup, 1) := by decide +kernel
theorem dL_law_12 : decode cL_law 12 = .ok (.invokespecial 70, 3) := by decide +kernel
theorem dL_law_15 : decode cL_law 15 = .ok (.astore_n 2, 1) := by decide +kernel
theorem dL_law_16 : decode cL_law 16 = .ok (.iconst 1, 1) := by decide +kernel
theorem dL_law_17 : decode cL_law 17 = .ok (.newarray .long, 2) := by decide +kernel
theorem dL_law_19 : decode cL_law 19 = .ok (.astore_n 3, 1) := by decide +kernel
theorem dL_law_20 : decode cL_law 20 = .ok (.iconst 1, 1) := by decide +kernel
theorem dL_law_21 : decode cL_law 21 = .ok (.newarray .double, 2) := by decide +kernel
theorem dL_law_23 : decode cL_law 23 = .ok (.astore 4, 2) := by decide +kernel
theorem dL_law_25 : decode cL_law 25 = .ok (.iconst 0, 1) := by decide +kernel
theorem dL_law_26 : decode cL_law 26 = .ok (.istore 5, 2) := by decide +kernel
theorem dL_law_28 : decode cL_law 28 = .ok (.iload 5, 2) := by decide +kernel
theorem dL_law_30 : decode cL_law 30 = .ok (.aload_n 0, 1) := by decide +kernel
theorem dL_law_31 : decode cL_law 31 = .ok (.arraylength, 1) := by decide +kernel
theorem dL_law_32 : decode cL_law 32 = .ok (.iconst 4, 1) := by decide +kernel
theorem dL_law_33 : decode cL_law 33 = .ok (.isub, 1) := by decide +kernel
theorem dL_law_34 : decode cL_law 34 = .ok (.if_icmp .gt 1058, 3) := by decide +kernel
theorem dL_law_37 : decode cL_law 37 = .ok (.aload_n 0, 1) := by decide +kernel
theorem dL_law_38 : decode cL_law 38 = .ok (.iload 5, 2) := by decide +kernel
theorem dL_law_40 : decode cL_law 40 = .ok (.iaload, 1) := by decide +kernel
theorem dL_law_41 : decode cL_law 41 = .ok (.bipush 15, 2) := by decide +kernel
theorem dL_law_43 : decode cL_law 43 = .ok (.iand, 1) := by decide +kernel
theorem dL_law_44 : decode cL_law 44 = .ok (.tableswitch 1042 0 14 #[76, 156, 212, 256, 324, 392, 447, 515, 583, 663, 731, 811, 854, 909, 986], 76) := by decide +kernel
theorem dL_law_120 : decode cL_law 120 = .ok (.aload_n 1, 1) := by decide +kernel
theorem dL_law_121 : decode cL_law 121 = .ok (.aload_n 0, 1) := by decide +kernel
theorem dL_law_122 : decode cL_law 122 = .ok (.iload 5, 2) := by decide +kernel
theorem dL_law_124 : decode cL_law 124 = .ok (.iconst 1, 1) := by decide +kernel
theorem dL_law_125 : decode cL_law 125 = .ok (.iadd, 1) := by decide +kernel
theorem dL_law_126 : decode cL_law 126 = .ok (.iaload, 1) := by decide +kernel
theorem dL_law_127 : decode cL_law 127 = .ok (.aload_n 0, 1) := by decide +kernel
theorem dL_law_128 : decode cL_law 128 = .ok (.iload 5, 2) := by decide +kernel
theorem dL_law_130 : decode cL_law 130 = .ok (.iconst 2, 1) := by decide +kernel
theorem dL_law_131 : decode cL_law 131 = .ok (.iadd, 1) := by decide +kernel
theorem dL_law_132 : decode cL_law 132 = .ok (.iaload, 1) := by decide +kernel
theorem dL_law_133 : decode cL_law 133 = .ok (.aload_n 0, 1) := by decide +kernel
theorem dL_law_134 : decode cL_law 134 = .ok (.iload 5, 2) := by decide +kernel
theorem dL_law_136 : decode cL_law 136 = .ok (.iconst 3, 1) := by decide +kernel
theorem dL_law_137 : decode cL_law 137 = .ok (.iadd, 1) := by decide +kernel
theorem dL_law_138 : decode cL_law 138 = .ok (.iaload, 1) := by decide +kernel
theorem dL_law_139 : decode cL_law 139 = .ok (.aload_n 3, 1) := by decide +kernel
theorem dL_law_140 : decode cL_law 140 = .ok (.invokestatic 71, 3) := by decide +kernel
theorem dL_law_143 : decode cL_law 143 = .ok (.istore 6, 2) := by decide +kernel
theorem dL_law_145 : decode cL_law 145 = .ok (.aload_n 2, 1) := by decide +kernel
theorem dL_law_146 : decode cL_law 146 = .ok (.aload_n 0, 1) := by decide +kernel
theorem dL_law_147 : decode cL_law 147 = .ok (.iload 5, 2) := by decide +kernel
theorem dL_law_149 : decode cL_law 149 = .ok (.iconst 1, 1) := by decide +kernel
theorem dL_law_150 : decode cL_law 150 = .ok (.iadd, 1) := by decide +kernel
theorem dL_law_151 : decode cL_law 151 = .ok (.iaload, 1) := by decide +kernel
theorem dL_law_152 : decode cL_law 152 = .ok (.aload_n 0, 1) := by decide +kernel
theorem dL_law_153 : decode cL_law 153 = .ok (.iload 5, 2) := by decide +kernel
theorem dL_law_155 : decode cL_law 155 = .ok (.iconst 2, 1) := by decide +kernel
theorem dL_law_156 : decode cL_law 156 = .ok (.iadd, 1) := by decide +kernel
theorem dL_law_157 : decode cL_law 157 = .ok (.iaload, 1) := by decide +kernel
theorem dL_law_158 : decode cL_law 158 = .ok (.aload_n 0, 1) := by decide +kernel
theorem dL_law_159 : decode cL_law 159 = .ok (.iload 5, 2) := by decide +kernel
theorem dL_law_161 : decode cL_law 161 = .ok (.iconst 3, 1) := by decide +kernel
theorem dL_law_162 : decode cL_law 162 = .ok (.iadd, 1) := by decide +kernel
theorem dL_law_163 : decode cL_law 163 = .ok (.iaload, 1) := by decide +kernel
theorem dL_law_164 : decode cL_law 164 = .ok (.invokevirtual 76, 3) := by decide +kernel
theorem dL_law_167 : decode cL_law 167 = .ok (.istore 7, 2) := by decide +kernel
theorem dL_law_169 : decode cL_law 169 = .ok (.aload_n 2, 1) := by decide +kernel
theorem dL_law_170 : decode cL_law 170 = .ok (.invokevirtual 77, 3) := by decide +kernel
theorem dL_law_173 : decode cL_law 173 = .ok (.iload 6, 2) := by decide +kernel
theorem dL_law_175 : decode cL_law 175 = .ok (.if_icmp .eq 5, 3) := by decide +kernel
theorem dL_law_178 : decode cL_law 178 = .ok (.iconst 0, 1) := by decide +kernel
theorem dL_law_179 : decode cL_law 179 = .ok (.ireturn, 1) := by decide +kernel
theorem dL_law_180 : decode cL_law 180 = .ok (.iload 6, 2) := by decide +kernel
theorem dL_law_182 : decode cL_law 182 = .ok (.ifCond .ne 15, 3) := by decide +kernel
theorem dL_law_185 : decode cL_law 185 = .ok (.aload_n 3, 1) := by decide +kernel
theorem dL_law_186 : decode cL_law 186 = .ok (.iconst 0, 1) := by decide +kernel
theorem dL_law_187 : decode cL_law 187 = .ok (.laload, 1) := by decide +kernel
theorem dL_law_188 : decode cL_law 188 = .ok (.iload 7, 2) := by decide +kernel
theorem dL_law_190 : decode cL_law 190 = .ok (.i2l, 1) := by decide +kernel
theorem dL_law_191 : decode cL_law 191 = .ok (.lcmp, 1) := by decide +kernel
theorem dL_law_192 : decode cL_law 192 = .ok (.ifCond .eq 5, 3) := by decide +kernel
theorem dL_law_195 : decode cL_law 195 = .ok (.iconst 0, 1) := by decide +kernel
theorem dL_law_196 : decode cL_law 196 = .ok (.ireturn, 1) := by decide +kernel
theorem dL_law_197 : decode cL_law 197 = .ok (.goto 889, 3) := by decide +kernel
theorem dL_law_200 : decode cL_law 200 = .ok (.aload_n 1, 1) := by decide +kernel
theorem dL_law_201 : decode cL_law 201 = .ok (.aload_n 0, 1) := by decide +kernel
theorem dL_law_202 : decode cL_law 202 = .ok (.iload 5, 2) := by decide +kernel
theorem dL_law_204 : decode cL_law 204 = .ok (.iconst 1, 1) := by decide +kernel
theorem dL_law_205 : decode cL_law 205 = .ok (.iadd, 1) := by decide +kernel
theorem dL_law_206 : decode cL_law 206 = .ok (.iaload, 1) := by decide +kernel
theorem dL_law_207 : decode cL_law 207 = .ok (.aload_n 3, 1) := by decide +kernel
theorem dL_law_208 : decode cL_law 208 = .ok (.invokestatic 80, 3) := by decide +kernel
theorem dL_law_211 : decode cL_law 211 = .ok (.istore 6, 2) := by decide +kernel
theorem dL_law_213 : decode cL_law 213 = .ok (.aload_n 2, 1) := by decide +kernel
theorem dL_law_214 : decode cL_law 214 = .ok (.aload_n 0, 1) := by decide +kernel
theorem dL_law_215 : decode cL_law 215 = .ok (.iload 5, 2) := by decide +kernel
theorem dL_law_217 : decode cL_law 217 = .ok (.iconst 1, 1) := by decide +kernel
theorem dL_law_218 : decode cL_law 218 = .ok (.iadd, 1) := by decide +kernel
theorem dL_law_219 : decode cL_law 219 = .ok (.iaload, 1) := by decide +kernel
theorem dL_law_220 : decode cL_law 220 = .ok (.invokevirtual 83, 3) := by decide +kernel
theorem dL_law_223 : decode cL_law 223 = .ok (.istore 7, 2) := by decide +kernel
theorem dL_law_225 : decode cL_law 225 = .ok (.aload_n 2, 1) := by decide +kernel
theorem dL_law_226 : decode cL_law 226 = .ok (.invokevirtual 77, 3) := by decide +kernel
theorem dL_law_229 : decode cL_law 229 = .ok (.iload 6, 2) := by decide +kernel
theorem dL_law_231 : decode cL_law 231 = .ok (.if_icmp .eq 5, 3) := by decide +kernel
theorem dL_law_234 : decode cL_law 234 = .ok (.iconst 0, 1) := by decide +kernel
theorem dL_law_235 : decode cL_law 235 = .ok (.ireturn, 1) := by decide +kernel
theorem dL_law_236 : decode cL_law 236 = .ok (.iload 6, 2) := by decide +kernel
theorem dL_law_238 : decode cL_law 238 = .ok (.ifCond .ne 15, 3) := by decide +kernel
theorem dL_law_241 : decode cL_law 241 = .ok (.aload_n 3, 1) := by decide +kernel
theorem dL_law_242 : decode cL_law 242 = .ok (.iconst 0, 1) := by decide +kernel
theorem dL_law_243 : decode cL_law 243 = .ok (.laload, 1) := by decide +kernel
theorem dL_law_244 : decode cL_law 244 = .ok (.iload 7, 2) := by decide +kernel
theorem dL_law_246 : decode cL_law 246 = .ok (.i2l, 1) := by decide +kernel
theorem dL_law_247 : decode cL_law 247 = .ok (.lcmp, 1) := by decide +kernel
theorem dL_law_248 : decode cL_law 248 = .ok (.ifCond .eq 5, 3) := by decide +kernel
theorem dL_law_251 : decode cL_law 251 = .ok (.iconst 0, 1) := by decide +kernel
theorem dL_law_252 : decode cL_law 252 = .ok (.ireturn, 1) := by decide +kernel
theorem dL_law_253 : decode cL_law 253 = .ok (.goto 833, 3) := by decide +kernel
theorem dL_law_256 : decode cL_law 256 = .ok (.aload_n 1, 1) := by decide +kernel
theorem dL_law_257 : decode cL_law 257 = .ok (.aload_n 3, 1) := by decide +kernel
theorem dL_law_258 : decode cL_law 258 = .ok (.invokestatic 84, 3) := by decide +kernel
theorem dL_law_261 : decode cL_law 261 = .ok (.istore 6, 2) := by decide +kernel
theorem dL_law_263 : decode cL_law 263 = .ok (.aload_n 2, 1) := by decide +kernel
theorem dL_law_264 : decode cL_law 264 = .ok (.invokevirtual 87, 3) := by decide +kernel
theorem dL_law_267 : decode cL_law 267 = .ok (.istore 7, 2) := by decide +kernel
theorem dL_law_269 : decode cL_law 269 = .ok (.aload_n 2, 1) := by decide +kernel
theorem dL_law_270 : decode cL_law 270 = .ok (.invokevirtual 77, 3) := by decide +kernel
theorem dL_law_273 : decode cL_law 273 = .ok (.iload 6, 2) := by decide +kernel
theorem dL_law_275 : decode cL_law 275 = .ok (.if_icmp .eq 5, 3) := by decide +kernel
theorem dL_law_278 : decode cL_law 278 = .ok (.iconst 0, 1) := by decide +kernel
theorem dL_law_279 : decode cL_law 279 = .ok (.ireturn, 1) := by decide +kernel
theorem dL_law_280 : decode cL_law 280 = .ok (.iload 6, 2) := by decide +kernel
theorem dL_law_282 : decode cL_law 282 = .ok (.ifCond .ne 15, 3) := by decide +kernel
theorem dL_law_285 : decode cL_law 285 = .ok (.aload_n 3, 1) := by decide +kernel
theorem dL_law_286 : decode cL_law 286 = .ok (.iconst 0, 1) := by decide +kernel
theorem dL_law_287 : decode cL_law 287 = .ok (.laload, 1) := by decide +kernel
theorem dL_law_288 : decode cL_law 288 = .ok (.iload 7, 2) := by decide +kernel
theorem dL_law_290 : decode cL_law 290 = .ok (.i2l, 1) := by decide +kernel
theorem dL_law_291 : decode cL_law 291 = .ok (.lcmp, 1) := by decide +kernel
theorem dL_law_292 : decode cL_law 292 = .ok (.ifCond .eq 5, 3) := by decide +kernel
theorem dL_law_295 : decode cL_law 295 = .ok (.iconst 0, 1) := by decide +kernel
theorem dL_law_296 : decode cL_law 296 = .ok (.ireturn, 1) := by decide +kernel
theorem dL_law_297 : decode cL_law 297 = .ok (.goto 789, 3) := by decide +kernel
theorem dL_law_300 : decode cL_law 300 = .ok (.aload_n 1, 1) := by decide +kernel
theorem dL_law_301 : decode cL_law 301 = .ok (.aload_n 0, 1) := by decide +kernel
theorem dL_law_302 : decode cL_law 302 = .ok (.iload 5, 2) := by decide +kernel
theorem dL_law_304 : decode cL_law 304 = .ok (.iconst 1, 1) := by decide +kernel
theorem dL_law_305 : decode cL_law 305 = .ok (.iadd, 1) := by decide +kernel
theorem dL_law_306 : decode cL_law 306 = .ok (.iaload, 1) := by decide +kernel
theorem dL_law_307 : decode cL_law 307 = .ok (.aload_n 0, 1) := by decide +kernel
theorem dL_law_308 : decode cL_law 308 = .ok (.iload 5, 2) := by decide +kernel
theorem dL_law_310 : decode cL_law 310 = .ok (.iconst 2, 1) := by decide +kernel
theorem dL_law_311 : decode cL_law 311 = .ok (.iadd, 1) := by decide +kernel
theorem dL_law_312 : decode cL_law 312 = .ok (.iaload, 1) := by decide +kernel
theorem dL_law_313 : decode cL_law 313 = .ok (.aload_n 3, 1) := by decide +kernel
theorem dL_law_314 : decode cL_law 314 = .ok (.invokestatic 88, 3) := by decide +kernel
theorem dL_law_317 : decode cL_law 317 = .ok (.istore 6, 2) := by decide +kernel
theorem dL_law_319 : decode cL_law 319 = .ok (.aload_n 2, 1) := by decide +kernel
theorem dL_law_320 : decode cL_law 320 = .ok (.aload_n 0, 1) := by decide +kernel
theorem dL_law_321 : decode cL_law 321 = .ok (.iload 5, 2) := by decide +kernel
theorem dL_law_323 : decode cL_law 323 = .ok (.iconst 1, 1) := by decide +kernel
theorem dL_law_324 : decode cL_law 324 = .ok (.iadd, 1) := by decide +kernel
theorem dL_law_325 : decode cL_law 325 = .ok (.iaload, 1) := by decide +kernel
theorem dL_law_326 : decode cL_law 326 = .ok (.aload_n 0, 1) := by decide +kernel
theorem dL_law_327 : decode cL_law 327 = .ok (.iload 5, 2) := by decide +kernel
theorem dL_law_329 : decode cL_law 329 = .ok (.iconst 2, 1) := by decide +kernel
theorem dL_law_330 : decode cL_law 330 = .ok (.iadd, 1) := by decide +kernel
theorem dL_law_331 : decode cL_law 331 = .ok (.iaload, 1) := by decide +kernel
theorem dL_law_332 : decode cL_law 332 = .ok (.invokevirtual 91, 3) := by decide +kernel
theorem dL_law_335 : decode cL_law 335 = .ok (.istore 7, 2) := by decide +kernel
theorem dL_law_337 : decode cL_law 337 = .ok (.aload_n 2, 1) := by decide +kernel
theorem dL_law_338 : decode cL_law 338 = .ok (.invokevirtual 77, 3) := by decide +kernel
theorem dL_law_341 : decode cL_law 341 = .ok (.iload 6, 2) := by decide +kernel
theorem dL_law_343 : decode cL_law 343 = .ok (.if_icmp .eq 5, 3) := by decide +kernel
theorem dL_law_346 : decode cL_law 346 = .ok (.iconst 0, 1) := by decide +kernel
theorem dL_law_347 : decode cL_law 347 = .ok (.ireturn, 1) := by decide +kernel
theorem dL_law_348 : decode cL_law 348 = .ok (.iload 6, 2) := by decide +kernel
theorem dL_law_350 : decode cL_law 350 = .ok (.ifCond .ne 15, 3) := by decide +kernel
theorem dL_law_353 : decode cL_law 353 = .ok (.aload_n 3, 1) := by decide +kernel
theorem dL_law_354 : decode cL_law 354 = .ok (.iconst 0, 1) := by decide +kernel
theorem dL_law_355 : decode cL_law 355 = .ok (.laload, 1) := by decide +kernel
theorem dL_law_356 : decode cL_law 356 = .ok (.iload 7, 2) := by decide +kernel
theorem dL_law_358 : decode cL_law 358 = .ok (.i2l, 1) := by decide +kernel
theorem dL_law_359 : decode cL_law 359 = .ok (.lcmp, 1) := by decide +kernel
theorem dL_law_360 : decode cL_law 360 = .ok (.ifCond .eq 5, 3) := by decide +kernel
theorem dL_law_363 : decode cL_law 363 = .ok (.iconst 0, 1) := by decide +kernel
theorem dL_law_364 : decode cL_law 364 = .ok (.ireturn, 1) := by decide +kernel
theorem dL_law_365 : decode cL_law 365 = .ok (.goto 721, 3) := by decide +kernel
theorem dL_law_368 : decode cL_law 368 = .ok (.aload_n 1, 1) := by decide +kernel
theorem dL_law_369 : decode cL_law 369 = .ok (.aload_n 0, 1) := by decide +kernel
theorem dL_law_370 : decode cL_law 370 = .ok (.iload 5, 2) := by decide +kernel
theorem dL_law_372 : decode cL_law 372 = .ok (.iconst 1, 1) := by decide +kernel
theorem dL_law_373 : decode cL_law 373 = .ok (.iadd, 1) := by decide +kernel
theorem dL_law_374 : decode cL_law 374 = .ok (.iaload, 1) := by decide +kernel
theorem dL_law_375 : decode cL_law 375 = .ok (.aload_n 0, 1) := by decide +kernel
theorem dL_law_376 : decode cL_law 376 = .ok (.iload 5, 2) := by decide +kernel
theorem dL_law_378 : decode cL_law 378 = .ok (.iconst 2, 1) := by decide +kernel
theorem dL_law_379 : decode cL_law 379 = .ok (.iadd, 1) := by decide +kernel
theorem dL_law_380 : decode cL_law 380 = .ok (.iaload, 1) := by decide +kernel
theorem dL_law_381 : decode cL_law 381 = .ok (.aload_n 3, 1) := by decide +kernel
theorem dL_law_382 : decode cL_law 382 = .ok (.invokestatic 92, 3) := by decide +kernel
theorem dL_law_385 : decode cL_law 385 = .ok (.istore 6, 2) := by decide +kernel
theorem dL_law_387 : decode cL_law 387 = .ok (.aload_n 2, 1) := by decide +kernel
theorem dL_law_388 : decode cL_law 388 = .ok (.aload_n 0, 1) := by decide +kernel
theorem dL_law_389 : decode cL_law 389 = .ok (.iload 5, 2) := by decide +kernel
theorem dL_law_391 : decode cL_law 391 = .ok (.iconst 1, 1) := by decide +kernel
theorem dL_law_392 : decode cL_law 392 = .ok (.iadd, 1) := by decide +kernel
theorem dL_law_393 : decode cL_law 393 = .ok (.iaload, 1) := by decide +kernel
theorem dL_law_394 : decode cL_law 394 = .ok (.aload_n 0, 1) := by decide +kernel
theorem dL_law_395 : decode cL_law 395 = .ok (.iload 5, 2) := by decide +kernel
theorem dL_law_397 : decode cL_law 397 = .ok (.iconst 2, 1) := by decide +kernel
theorem dL_law_398 : decode cL_law 398 = .ok (.iadd, 1) := by decide +kernel
theorem dL_law_399 : decode cL_law 399 = .ok (.iaload, 1) := by decide +kernel
theorem dL_law_400 : decode cL_law 400 = .ok (.invokevirtual 94, 3) := by decide +kernel
theorem dL_law_403 : decode cL_law 403 = .ok (.istore 7, 2) := by decide +kernel
theorem dL_law_405 : decode cL_law 405 = .ok (.aload_n 2, 1) := by decide +kernel
theorem dL_law_406 : decode cL_law 406 = .ok (.invokevirtual 77, 3) := by decide +kernel
theorem dL_law_409 : decode cL_law 409 = .ok (.iload 6, 2) := by decide +kernel
theorem dL_law_411 : decode cL_law 411 = .ok (.if_icmp .eq 5, 3) := by decide +kernel
theorem dL_law_414 : decode cL_law 414 = .ok (.iconst 0, 1) := by decide +kernel
theorem dL_law_415 : decode cL_law 415 = .ok (.ireturn, 1) := by decide +kernel
theorem dL_law_416 : decode cL_law 416 = .ok (.iload 6, 2) := by decide +kernel
theorem dL_law_418 : decode cL_law 418 = .ok (.ifCond .ne 15, 3) := by decide +kernel
theorem dL_law_421 : decode cL_law 421 = .ok (.aload_n 3, 1) := by decide +kernel
theorem dL_law_422 : decode cL_law 422 = .ok (.iconst 0, 1) := by decide +kernel
theorem dL_law_423 : decode cL_law 423 = .ok (.laload, 1) := by decide +kernel
theorem dL_law_424 : decode cL_law 424 = .ok (.iload 7, 2) := by decide +kernel
theorem dL_law_426 : decode cL_law 426 = .ok (.i2l, 1) := by decide +kernel
theorem dL_law_427 : decode cL_law 427 = .ok (.lcmp, 1) := by decide +kernel
theorem dL_law_428 : decode cL_law 428 = .ok (.ifCond .eq 5, 3) := by decide +kernel
theorem dL_law_431 : decode cL_law 431 = .ok (.iconst 0, 1) := by decide +kernel
theorem dL_law_432 : decode cL_law 432 = .ok (.ireturn, 1) := by decide +kernel
theorem dL_law_433 : decode cL_law 433 = .ok (.goto 653, 3) := by decide +kernel
theorem dL_law_436 : decode cL_law 436 = .ok (.aload_n 1, 1) := by decide +kernel
theorem dL_law_437 : decode cL_law 437 = .ok (.aload_n 0, 1) := by decide +kernel
theorem dL_law_438 : decode cL_law 438 = .ok (.iload 5, 2) := by decide +kernel
theorem dL_law_440 : decode cL_law 440 = .ok (.iconst 1, 1) := by decide +kernel
theorem dL_law_441 : decode cL_law 441 = .ok (.iadd, 1) := by decide +kernel
theorem dL_law_442 : decode cL_law 442 = .ok (.iaload, 1) := by decide +kernel
theorem dL_law_443 : decode cL_law 443 = .ok (.aload_n 3, 1) := by decide +kernel
theorem dL_law_444 : decode cL_law 444 = .ok (.invokestatic 95, 3) := by decide +kernel
theorem dL_law_447 : decode cL_law 447 = .ok (.istore 6, 2) := by decide +kernel
theorem dL_law_449 : decode cL_law 449 = .ok (.aload_n 2, 1) := by decide +kernel
theorem dL_law_450 : decode cL_law 450 = .ok (.aload_n 0, 1) := by decide +kernel
theorem dL_law_451 : decode cL_law 451 = .ok (.iload 5, 2) := by decide +kernel
theorem dL_law_453 : decode cL_law 453 = .ok (.iconst 1, 1) := by decide +kernel
theorem dL_law_454 : decode cL_law 454 = .ok (.iadd, 1) := by decide +kernel
theorem dL_law_455 : decode cL_law 455 = .ok (.iaload, 1) := by decide +kernel
theorem dL_law_456 : decode cL_law 456 = .ok (.invokevirtual 97, 3) := by decide +kernel
theorem dL_law_459 : decode cL_law 459 = .ok (.lstore 7, 2) := by decide +kernel
theorem dL_law_461 : decode cL_law 461 = .ok (.aload_n 2, 1) := by decide +kernel
theorem dL_law_462 : decode cL_law 462 = .ok (.invokevirtual 77, 3) := by decide +kernel
theorem dL_law_465 : decode cL_law 465 = .ok (.iload 6, 2) := by decide +kernel
theorem dL_law_467 : decode cL_law 467 = .ok (.if_icmp .eq 5, 3) := by decide +kernel
theorem dL_law_470 : decode cL_law 470 = .ok (.iconst 0, 1) := by decide +kernel
theorem dL_law_471 : decode cL_law 471 = .ok (.ireturn, 1) := by decide +kernel
theorem dL_law_472 : decode cL_law 472 = .ok (.iload 6, 2) := by decide +kernel
theorem dL_law_474 : decode cL_law 474 = .ok (.ifCond .ne 14, 3) := by decide +kernel
theorem dL_law_477 : decode cL_law 477 = .ok (.aload_n 3, 1) := by decide +kernel
theorem dL_law_478 : decode cL_law 478 = .ok (.iconst 0, 1) := by decide +kernel
theorem dL_law_479 : decode cL_law 479 = .ok (.laload, 1) := by decide +kernel
theorem dL_law_480 : decode cL_law 480 = .ok (.lload 7, 2) := by decide +kernel
theorem dL_law_482 : decode cL_law 482 = .ok (.lcmp, 1) := by decide +kernel
theorem dL_law_483 : decode cL_law 483 = .ok (.ifCond .eq 5, 3) := by decide +kernel
theorem dL_law_486 : decode cL_law 486 = .ok (.iconst 0, 1) := by decide +kernel
theorem dL_law_487 : decode cL_law 487 = .ok (.ireturn, 1) := by decide +kernel
theorem dL_law_488 : decode cL_law 488 = .ok (.goto 598, 3) := by decide +kernel
theorem dL_law_491 : decode cL_law 491 = .ok (.aload_n 1, 1) := by decide +kernel
theorem dL_law_492 : decode cL_law 492 = .ok (.aload_n 0, 1) := by decide +kernel
theorem dL_law_493 : decode cL_law 493 = .ok (.iload 5, 2) := by decide +kernel
theorem dL_law_495 : decode cL_law 495 = .ok (.iconst 1, 1) := by decide +kernel
theorem dL_law_496 : decode cL_law 496 = .ok (.iadd, 1) := by decide +kernel
theorem dL_law_497 : decode cL_law 497 = .ok (.iaload, 1) := by decide +kernel
theorem dL_law_498 : decode cL_law 498 = .ok (.aload_n 0, 1) := by decide +kernel
theorem dL_law_499 : decode cL_law 499 = .ok (.iload 5, 2) := by decide +kernel
theorem dL_law_501 : decode cL_law 501 = .ok (.iconst 2, 1) := by decide +kernel
theorem dL_law_502 : decode cL_law 502 = .ok (.iadd, 1) := by decide +kernel
theorem dL_law_503 : decode cL_law 503 = .ok (.iaload, 1) := by decide +kernel
theorem dL_law_504 : decode cL_law 504 = .ok (.aload_n 3, 1) := by decide +kernel
theorem dL_law_505 : decode cL_law 505 = .ok (.invokestatic 98, 3) := by decide +kernel
theorem dL_law_508 : decode cL_law 508 = .ok (.istore 6, 2) := by decide +kernel
theorem dL_law_510 : decode cL_law 510 = .ok (.aload_n 2, 1) := by decide +kernel
theorem dL_law_511 : decode cL_law 511 = .ok (.aload_n 0, 1) := by decide +kernel
theorem dL_law_512 : decode cL_law 512 = .ok (.iload 5, 2) := by decide +kernel
theorem dL_law_514 : decode cL_law 514 = .ok (.iconst 1, 1) := by decide +kernel
theorem dL_law_515 : decode cL_law 515 = .ok (.iadd, 1) := by decide +kernel
theorem dL_law_516 : decode cL_law 516 = .ok (.iaload, 1) := by decide +kernel
theorem dL_law_517 : decode cL_law 517 = .ok (.aload_n 0, 1) := by decide +kernel
theorem dL_law_518 : decode cL_law 518 = .ok (.iload 5, 2) := by decide +kernel
theorem dL_law_520 : decode cL_law 520 = .ok (.iconst 2, 1) := by decide +kernel
theorem dL_law_521 : decode cL_law 521 = .ok (.iadd, 1) := by decide +kernel
theorem dL_law_522 : decode cL_law 522 = .ok (.iaload, 1) := by decide +kernel
theorem dL_law_523 : decode cL_law 523 = .ok (.invokevirtual 100, 3) := by decide +kernel
theorem dL_law_526 : decode cL_law 526 = .ok (.istore 7, 2) := by decide +kernel
theorem dL_law_528 : decode cL_law 528 = .ok (.aload_n 2, 1) := by decide +kernel
theorem dL_law_529 : decode cL_law 529 = .ok (.invokevirtual 77, 3) := by decide +kernel
theorem dL_law_532 : decode cL_law 532 = .ok (.iload 6, 2) := by decide +kernel
theorem dL_law_534 : decode cL_law 534 = .ok (.if_icmp .eq 5, 3) := by decide +kernel
theorem dL_law_537 : decode cL_law 537 = .ok (.iconst 0, 1) := by decide +kernel
theorem dL_law_538 : decode cL_law 538 = .ok (.ireturn, 1) := by decide +kernel
theorem dL_law_539 : decode cL_law 539 = .ok (.iload 6, 2) := by decide +kernel
theorem dL_law_541 : decode cL_law 541 = .ok (.ifCond .ne 15, 3) := by decide +kernel
theorem dL_law_544 : decode cL_law 544 = .ok (.aload_n 3, 1) := by decide +kernel
theorem dL_law_545 : decode cL_law 545 = .ok (.iconst 0, 1) := by decide +kernel
theorem dL_law_546 : decode cL_law 546 = .ok (.laload, 1) := by decide +kernel
theorem dL_law_547 : decode cL_law 547 = .ok (.iload 7, 2) := by decide +kernel
theorem dL_law_549 : decode cL_law 549 = .ok (.i2l, 1) := by decide +kernel
theorem dL_law_550 : decode cL_law 550 = .ok (.lcmp, 1) := by decide +kernel
theorem dL_law_551 : decode cL_law 551 = .ok (.ifCond .eq 5, 3) := by decide +kernel
theorem dL_law_554 : decode cL_law 554 = .ok (.iconst 0, 1) := by decide +kernel
theorem dL_law_555 : decode cL_law 555 = .ok (.ireturn, 1) := by decide +kernel
theorem dL_law_556 : decode cL_law 556 = .ok (.goto 530, 3) := by decide +kernel
theorem dL_law_559 : decode cL_law 559 = .ok (.aload_n 1, 1) := by decide +kernel
theorem dL_law_560 : decode cL_law 560 = .ok (.aload_n 0, 1) := by decide +kernel
theorem dL_law_561 : decode cL_law 561 = .ok (.iload 5, 2) := by decide +kernel
theorem dL_law_563 : decode cL_law 563 = .ok (.iconst 1, 1) := by decide +kernel
theorem dL_law_564 : decode cL_law 564 = .ok (.iadd, 1) := by decide +kernel
theorem dL_law_565 : decode cL_law 565 = .ok (.iaload, 1) := by decide +kernel
theorem dL_law_566 : decode cL_law 566 = .ok (.aload_n 0, 1) := by decide +kernel
theorem dL_law_567 : decode cL_law 567 = .ok (.iload 5, 2) := by decide +kernel
theorem dL_law_569 : decode cL_law 569 = .ok (.iconst 2, 1) := by decide +kernel
theorem dL_law_570 : decode cL_law 570 = .ok (.iadd, 1) := by decide +kernel
theorem dL_law_571 : decode cL_law 571 = .ok (.iaload, 1) := by decide +kernel
theorem dL_law_572 : decode cL_law 572 = .ok (.aload_n 3, 1) := by decide +kernel
theorem dL_law_573 : decode cL_law 573 = .ok (.invokestatic 101, 3) := by decide +kernel
theorem dL_law_576 : decode cL_law 576 = .ok (.istore 6, 2) := by decide +kernel
theorem dL_law_578 : decode cL_law 578 = .ok (.aload_n 2, 1) := by decide +kernel
theorem dL_law_579 : decode cL_law 579 = .ok (.aload_n 0, 1) := by decide +kernel
theorem dL_law_580 : decode cL_law 580 = .ok (.iload 5, 2) := by decide +kernel
theorem dL_law_582 : decode cL_law 582 = .ok (.iconst 1, 1) := by decide +kernel
theorem dL_law_583 : decode cL_law 583 = .ok (.iadd, 1) := by decide +kernel
theorem dL_law_584 : decode cL_law 584 = .ok (.iaload, 1) := by decide +kernel
theorem dL_law_585 : decode cL_law 585 = .ok (.aload_n 0, 1) := by decide +kernel
theorem dL_law_586 : decode cL_law 586 = .ok (.iload 5, 2) := by decide +kernel
theorem dL_law_588 : decode cL_law 588 = .ok (.iconst 2, 1) := by decide +kernel
theorem dL_law_589 : decode cL_law 589 = .ok (.iadd, 1) := by decide +kernel
theorem dL_law_590 : decode cL_law 590 = .ok (.iaload, 1) := by decide +kernel
theorem dL_law_591 : decode cL_law 591 = .ok (.invokevirtual 103, 3) := by decide +kernel
theorem dL_law_594 : decode cL_law 594 = .ok (.istore 7, 2) := by decide +kernel
theorem dL_law_596 : decode cL_law 596 = .ok (.aload_n 2, 1) := by decide +kernel
theorem dL_law_597 : decode cL_law 597 = .ok (.invokevirtual 77, 3) := by decide +kernel
theorem dL_law_600 : decode cL_law 600 = .ok (.iload 6, 2) := by decide +kernel
theorem dL_law_602 : decode cL_law 602 = .ok (.if_icmp .eq 5, 3) := by decide +kernel
theorem dL_law_605 : decode cL_law 605 = .ok (.iconst 0, 1) := by decide +kernel
theorem dL_law_606 : decode cL_law 606 = .ok (.ireturn, 1) := by decide +kernel
theorem dL_law_607 : decode cL_law 607 = .ok (.iload 6, 2) := by decide +kernel
theorem dL_law_609 : decode cL_law 609 = .ok (.ifCond .ne 15, 3) := by decide +kernel
theorem dL_law_612 : decode cL_law 612 = .ok (.aload_n 3, 1) := by decide +kernel
theorem dL_law_613 : decode cL_law 613 = .ok (.iconst 0, 1) := by decide +kernel
theorem dL_law_614 : decode cL_law 614 = .ok (.laload, 1) := by decide +kernel
theorem dL_law_615 : decode cL_law 615 = .ok (.iload 7, 2) := by decide +kernel
theorem dL_law_617 : decode cL_law 617 = .ok (.i2l, 1) := by decide +kernel
theorem dL_law_618 : decode cL_law 618 = .ok (.lcmp, 1) := by decide +kernel
theorem dL_law_619 : decode cL_law 619 = .ok (.ifCond .eq 5, 3) := by decide +kernel
theorem dL_law_622 : decode cL_law 622 = .ok (.iconst 0, 1) := by decide +kernel
theorem dL_law_623 : decode cL_law 623 = .ok (.ireturn, 1) := by decide +kernel
theorem dL_law_624 : decode cL_law 624 = .ok (.goto 462, 3) := by decide +kernel
theorem dL_law_627 : decode cL_law 627 = .ok (.aload_n 1, 1) := by decide +kernel
theorem dL_law_628 : decode cL_law 628 = .ok (.aload_n 0, 1) := by decide +kernel
theorem dL_law_629 : decode cL_law 629 = .ok (.iload 5, 2) := by decide +kernel
theorem dL_law_631 : decode cL_law 631 = .ok (.iconst 1, 1) := by decide +kernel
theorem dL_law_632 : decode cL_law 632 = .ok (.iadd, 1) := by decide +kernel
theorem dL_law_633 : decode cL_law 633 = .ok (.iaload, 1) := by decide +kernel
theorem dL_law_634 : decode cL_law 634 = .ok (.aload_n 0, 1) := by decide +kernel
theorem dL_law_635 : decode cL_law 635 = .ok (.iload 5, 2) := by decide +kernel
theorem dL_law_637 : decode cL_law 637 = .ok (.iconst 2, 1) := by decide +kernel
theorem dL_law_638 : decode cL_law 638 = .ok (.iadd, 1) := by decide +kernel
theorem dL_law_639 : decode cL_law 639 = .ok (.iaload, 1) := by decide +kernel
theorem dL_law_640 : decode cL_law 640 = .ok (.aload_n 0, 1) := by decide +kernel
theorem dL_law_641 : decode cL_law 641 = .ok (.iload 5, 2) := by decide +kernel
theorem dL_law_643 : decode cL_law 643 = .ok (.iconst 3, 1) := by decide +kernel
theorem dL_law_644 : decode cL_law 644 = .ok (.iadd, 1) := by decide +kernel
theorem dL_law_645 : decode cL_law 645 = .ok (.iaload, 1) := by decide +kernel
theorem dL_law_646 : decode cL_law 646 = .ok (.aload_n 3, 1) := by decide +kernel
theorem dL_law_647 : decode cL_law 647 = .ok (.invokestatic 104, 3) := by decide +kernel
theorem dL_law_650 : decode cL_law 650 = .ok (.istore 6, 2) := by decide +kernel
theorem dL_law_652 : decode cL_law 652 = .ok (.aload_n 2, 1) := by decide +kernel
theorem dL_law_653 : decode cL_law 653 = .ok (.aload_n 0, 1) := by decide +kernel
theorem dL_law_654 : decode cL_law 654 = .ok (.iload 5, 2) := by decide +kernel
theorem dL_law_656 : decode cL_law 656 = .ok (.iconst 1, 1) := by decide +kernel
theorem dL_law_657 : decode cL_law 657 = .ok (.iadd, 1) := by decide +kernel
theorem dL_law_658 : decode cL_law 658 = .ok (.iaload, 1) := by decide +kernel
theorem dL_law_659 : decode cL_law 659 = .ok (.aload_n 0, 1) := by decide +kernel
theorem dL_law_660 : decode cL_law 660 = .ok (.iload 5, 2) := by decide +kernel
theorem dL_law_662 : decode cL_law 662 = .ok (.iconst 2, 1) := by decide +kernel
theorem dL_law_663 : decode cL_law 663 = .ok (.iadd, 1) := by decide +kernel
theorem dL_law_664 : decode cL_law 664 = .ok (.iaload, 1) := by decide +kernel
theorem dL_law_665 : decode cL_law 665 = .ok (.aload_n 0, 1) := by decide +kernel
theorem dL_law_666 : decode cL_law 666 = .ok (.iload 5, 2) := by decide +kernel
theorem dL_law_668 : decode cL_law 668 = .ok (.iconst 3, 1) := by decide +kernel
theorem dL_law_669 : decode cL_law 669 = .ok (.iadd, 1) := by decide +kernel
theorem dL_law_670 : decode cL_law 670 = .ok (.iaload, 1) := by decide +kernel
theorem dL_law_671 : decode cL_law 671 = .ok (.invokevirtual 106, 3) := by decide +kernel
theorem dL_law_674 : decode cL_law 674 = .ok (.istore 7, 2) := by decide +kernel
theorem dL_law_676 : decode cL_law 676 = .ok (.aload_n 2, 1) := by decide +kernel
theorem dL_law_677 : decode cL_law 677 = .ok (.invokevirtual 77, 3) := by decide +kernel
theorem dL_law_680 : decode cL_law 680 = .ok (.iload 6, 2) := by decide +kernel
theorem dL_law_682 : decode cL_law 682 = .ok (.if_icmp .eq 5, 3) := by decide +kernel
theorem dL_law_685 : decode cL_law 685 = .ok (.iconst 0, 1) := by decide +kernel
theorem dL_law_686 : decode cL_law 686 = .ok (.ireturn, 1) := by decide +kernel
theorem dL_law_687 : decode cL_law 687 = .ok (.iload 6, 2) := by decide +kernel
theorem dL_law_689 : decode cL_law 689 = .ok (.ifCond .ne 15, 3) := by decide +kernel
theorem dL_law_692 : decode cL_law 692 = .ok (.aload_n 3, 1) := by decide +kernel
theorem dL_law_693 : decode cL_law 693 = .ok (.iconst 0, 1) := by decide +kernel
theorem dL_law_694 : decode cL_law 694 = .ok (.laload, 1) := by decide +kernel
theorem dL_law_695 : decode cL_law 695 = .ok (.iload 7, 2) := by decide +kernel
theorem dL_law_697 : decode cL_law 697 = .ok (.i2l, 1) := by decide +kernel
theorem dL_law_698 : decode cL_law 698 = .ok (.lcmp, 1) := by decide +kernel
theorem dL_law_699 : decode cL_law 699 = .ok (.ifCond .eq 5, 3) := by decide +kernel
theorem dL_law_702 : decode cL_law 702 = .ok (.iconst 0, 1) := by decide +kernel
theorem dL_law_703 : decode cL_law 703 = .ok (.ireturn, 1) := by decide +kernel
theorem dL_law_704 : decode cL_law 704 = .ok (.goto 382, 3) := by decide +kernel
theorem dL_law_707 : decode cL_law 707 = .ok (.aload_n 1, 1) := by decide +kernel
theorem dL_law_708 : decode cL_law 708 = .ok (.aload_n 0, 1) := by decide +kernel
theorem dL_law_709 : decode cL_law 709 = .ok (.iload 5, 2) := by decide +kernel
theorem dL_law_711 : decode cL_law 711 = .ok (.iconst 1, 1) := by decide +kernel
theorem dL_law_712 : decode cL_law 712 = .ok (.iadd, 1) := by decide +kernel
theorem dL_law_713 : decode cL_law 713 = .ok (.iaload, 1) := by decide +kernel
theorem dL_law_714 : decode cL_law 714 = .ok (.aload_n 0, 1) := by decide +kernel
theorem dL_law_715 : decode cL_law 715 = .ok (.iload 5, 2) := by decide +kernel
theorem dL_law_717 : decode cL_law 717 = .ok (.iconst 2, 1) := by decide +kernel
theorem dL_law_718 : decode cL_law 718 = .ok (.iadd, 1) := by decide +kernel
theorem dL_law_719 : decode cL_law 719 = .ok (.iaload, 1) := by decide +kernel
theorem dL_law_720 : decode cL_law 720 = .ok (.aload_n 3, 1) := by decide +kernel
theorem dL_law_721 : decode cL_law 721 = .ok (.invokestatic 107, 3) := by decide +kernel
theorem dL_law_724 : decode cL_law 724 = .ok (.istore 6, 2) := by decide +kernel
theorem dL_law_726 : decode cL_law 726 = .ok (.aload_n 2, 1) := by decide +kernel
theorem dL_law_727 : decode cL_law 727 = .ok (.aload_n 0, 1) := by decide +kernel
theorem dL_law_728 : decode cL_law 728 = .ok (.iload 5, 2) := by decide +kernel
theorem dL_law_730 : decode cL_law 730 = .ok (.iconst 1, 1) := by decide +kernel
theorem dL_law_731 : decode cL_law 731 = .ok (.iadd, 1) := by decide +kernel
theorem dL_law_732 : decode cL_law 732 = .ok (.iaload, 1) := by decide +kernel
theorem dL_law_733 : decode cL_law 733 = .ok (.aload_n 0, 1) := by decide +kernel
theorem dL_law_734 : decode cL_law 734 = .ok (.iload 5, 2) := by decide +kernel
theorem dL_law_736 : decode cL_law 736 = .ok (.iconst 2, 1) := by decide +kernel
theorem dL_law_737 : decode cL_law 737 = .ok (.iadd, 1) := by decide +kernel
theorem dL_law_738 : decode cL_law 738 = .ok (.iaload, 1) := by decide +kernel
theorem dL_law_739 : decode cL_law 739 = .ok (.invokevirtual 109, 3) := by decide +kernel
theorem dL_law_742 : decode cL_law 742 = .ok (.istore 7, 2) := by decide +kernel
theorem dL_law_744 : decode cL_law 744 = .ok (.aload_n 2, 1) := by decide +kernel
theorem dL_law_745 : decode cL_law 745 = .ok (.invokevirtual 77, 3) := by decide +kernel
theorem dL_law_748 : decode cL_law 748 = .ok (.iload 6, 2) := by decide +kernel
theorem dL_law_750 : decode cL_law 750 = .ok (.if_icmp .eq 5, 3) := by decide +kernel
theorem dL_law_753 : decode cL_law 753 = .ok (.iconst 0, 1) := by decide +kernel
theorem dL_law_754 : decode cL_law 754 = .ok (.ireturn, 1) := by decide +kernel
theorem dL_law_755 : decode cL_law 755 = .ok (.iload 6, 2) := by decide +kernel
theorem dL_law_757 : decode cL_law 757 = .ok (.ifCond .ne 15, 3) := by decide +kernel
theorem dL_law_760 : decode cL_law 760 = .ok (.aload_n 3, 1) := by decide +kernel
theorem dL_law_761 : decode cL_law 761 = .ok (.iconst 0, 1) := by decide +kernel
theorem dL_law_762 : decode cL_law 762 = .ok (.laload, 1) := by decide +kernel
theorem dL_law_763 : decode cL_law 763 = .ok (.iload 7, 2) := by decide +kernel
theorem dL_law_765 : decode cL_law 765 = .ok (.i2l, 1) := by decide +kernel
theorem dL_law_766 : decode cL_law 766 = .ok (.lcmp, 1) := by decide +kernel
theorem dL_law_767 : decode cL_law 767 = .ok (.ifCond .eq 5, 3) := by decide +kernel
theorem dL_law_770 : decode cL_law 770 = .ok (.iconst 0, 1) := by decide +kernel
theorem dL_law_771 : decode cL_law 771 = .ok (.ireturn, 1) := by decide +kernel
theorem dL_law_772 : decode cL_law 772 = .ok (.goto 314, 3) := by decide +kernel
theorem dL_law_775 : decode cL_law 775 = .ok (.aload_n 1, 1) := by decide +kernel
theorem dL_law_776 : decode cL_law 776 = .ok (.aload_n 0, 1) := by decide +kernel
theorem dL_law_777 : decode cL_law 777 = .ok (.iload 5, 2) := by decide +kernel
theorem dL_law_779 : decode cL_law 779 = .ok (.iconst 1, 1) := by decide +kernel
theorem dL_law_780 : decode cL_law 780 = .ok (.iadd, 1) := by decide +kernel
theorem dL_law_781 : decode cL_law 781 = .ok (.iaload, 1) := by decide +kernel
theorem dL_law_782 : decode cL_law 782 = .ok (.aload_n 0, 1) := by decide +kernel
theorem dL_law_783 : decode cL_law 783 = .ok (.iload 5, 2) := by decide +kernel
theorem dL_law_785 : decode cL_law 785 = .ok (.iconst 2, 1) := by decide +kernel
theorem dL_law_786 : decode cL_law 786 = .ok (.iadd, 1) := by decide +kernel
theorem dL_law_787 : decode cL_law 787 = .ok (.iaload, 1) := by decide +kernel
theorem dL_law_788 : decode cL_law 788 = .ok (.aload_n 0, 1) := by decide +kernel
theorem dL_law_789 : decode cL_law 789 = .ok (.iload 5, 2) := by decide +kernel
theorem dL_law_791 : decode cL_law 791 = .ok (.iconst 3, 1) := by decide +kernel
theorem dL_law_792 : decode cL_law 792 = .ok (.iadd, 1) := by decide +kernel
theorem dL_law_793 : decode cL_law 793 = .ok (.iaload, 1) := by decide +kernel
theorem dL_law_794 : decode cL_law 794 = .ok (.aload_n 3, 1) := by decide +kernel
theorem dL_law_795 : decode cL_law 795 = .ok (.invokestatic 110, 3) := by decide +kernel
theorem dL_law_798 : decode cL_law 798 = .ok (.istore 6, 2) := by decide +kernel
theorem dL_law_800 : decode cL_law 800 = .ok (.aload_n 2, 1) := by decide +kernel
theorem dL_law_801 : decode cL_law 801 = .ok (.aload_n 0, 1) := by decide +kernel
theorem dL_law_802 : decode cL_law 802 = .ok (.iload 5, 2) := by decide +kernel
theorem dL_law_804 : decode cL_law 804 = .ok (.iconst 1, 1) := by decide +kernel
theorem dL_law_805 : decode cL_law 805 = .ok (.iadd, 1) := by decide +kernel
theorem dL_law_806 : decode cL_law 806 = .ok (.iaload, 1) := by decide +kernel
theorem dL_law_807 : decode cL_law 807 = .ok (.aload_n 0, 1) := by decide +kernel
theorem dL_law_808 : decode cL_law 808 = .ok (.iload 5, 2) := by decide +kernel
theorem dL_law_810 : decode cL_law 810 = .ok (.iconst 2, 1) := by decide +kernel
theorem dL_law_811 : decode cL_law 811 = .ok (.iadd, 1) := by decide +kernel
theorem dL_law_812 : decode cL_law 812 = .ok (.iaload, 1) := by decide +kernel
theorem dL_law_813 : decode cL_law 813 = .ok (.aload_n 0, 1) := by decide +kernel
theorem dL_law_814 : decode cL_law 814 = .ok (.iload 5, 2) := by decide +kernel
theorem dL_law_816 : decode cL_law 816 = .ok (.iconst 3, 1) := by decide +kernel
theorem dL_law_817 : decode cL_law 817 = .ok (.iadd, 1) := by decide +kernel
theorem dL_law_818 : decode cL_law 818 = .ok (.iaload, 1) := by decide +kernel
theorem dL_law_819 : decode cL_law 819 = .ok (.invokevirtual 112, 3) := by decide +kernel
theorem dL_law_822 : decode cL_law 822 = .ok (.istore 7, 2) := by decide +kernel
theorem dL_law_824 : decode cL_law 824 = .ok (.aload_n 2, 1) := by decide +kernel
theorem dL_law_825 : decode cL_law 825 = .ok (.invokevirtual 77, 3) := by decide +kernel
theorem dL_law_828 : decode cL_law 828 = .ok (.iload 6, 2) := by decide +kernel
theorem dL_law_830 : decode cL_law 830 = .ok (.if_icmp .eq 5, 3) := by decide +kernel
theorem dL_law_833 : decode cL_law 833 = .ok (.iconst 0, 1) := by decide +kernel
theorem dL_law_834 : decode cL_law 834 = .ok (.ireturn, 1) := by decide +kernel
theorem dL_law_835 : decode cL_law 835 = .ok (.iload 6, 2) := by decide +kernel
theorem dL_law_837 : decode cL_law 837 = .ok (.ifCond .ne 15, 3) := by decide +kernel
theorem dL_law_840 : decode cL_law 840 = .ok (.aload_n 3, 1) := by decide +kernel
theorem dL_law_841 : decode cL_law 841 = .ok (.iconst 0, 1) := by decide +kernel
theorem dL_law_842 : decode cL_law 842 = .ok (.laload, 1) := by decide +kernel
theorem dL_law_843 : decode cL_law 843 = .ok (.iload 7, 2) := by decide +kernel
theorem dL_law_845 : decode cL_law 845 = .ok (.i2l, 1) := by decide +kernel
theorem dL_law_846 : decode cL_law 846 = .ok (.lcmp, 1) := by decide +kernel
theorem dL_law_847 : decode cL_law 847 = .ok (.ifCond .eq 5, 3) := by decide +kernel
theorem dL_law_850 : decode cL_law 850 = .ok (.iconst 0, 1) := by decide +kernel
theorem dL_law_851 : decode cL_law 851 = .ok (.ireturn, 1) := by decide +kernel
theorem dL_law_852 : decode cL_law 852 = .ok (.goto 234, 3) := by decide +kernel
theorem dL_law_855 : decode cL_law 855 = .ok (.aload_n 1, 1) := by decide +kernel
theorem dL_law_856 : decode cL_law 856 = .ok (.aload_n 3, 1) := by decide +kernel
theorem dL_law_857 : decode cL_law 857 = .ok (.invokestatic 113, 3) := by decide +kernel
theorem dL_law_860 : decode cL_law 860 = .ok (.istore 6, 2) := by decide +kernel
theorem dL_law_862 : decode cL_law 862 = .ok (.aload_n 2, 1) := by decide +kernel
theorem dL_law_863 : decode cL_law 863 = .ok (.invokevirtual 115, 3) := by decide +kernel
theorem dL_law_866 : decode cL_law 866 = .ok (.lstore 7, 2) := by decide +kernel
theorem dL_law_868 : decode cL_law 868 = .ok (.aload_n 2, 1) := by decide +kernel
theorem dL_law_869 : decode cL_law 869 = .ok (.invokevirtual 77, 3) := by decide +kernel
theorem dL_law_872 : decode cL_law 872 = .ok (.iload 6, 2) := by decide +kernel
theorem dL_law_874 : decode cL_law 874 = .ok (.if_icmp .eq 5, 3) := by decide +kernel
theorem dL_law_877 : decode cL_law 877 = .ok (.iconst 0, 1) := by decide +kernel
theorem dL_law_878 : decode cL_law 878 = .ok (.ireturn, 1) := by decide +kernel
theorem dL_law_879 : decode cL_law 879 = .ok (.iload 6, 2) := by decide +kernel
theorem dL_law_881 : decode cL_law 881 = .ok (.ifCond .ne 14, 3) := by decide +kernel
theorem dL_law_884 : decode cL_law 884 = .ok (.aload_n 3, 1) := by decide +kernel
theorem dL_law_885 : decode cL_law 885 = .ok (.iconst 0, 1) := by decide +kernel
theorem dL_law_886 : decode cL_law 886 = .ok (.laload, 1) := by decide +kernel
theorem dL_law_887 : decode cL_law 887 = .ok (.lload 7, 2) := by decide +kernel
theorem dL_law_889 : decode cL_law 889 = .ok (.lcmp, 1) := by decide +kernel
theorem dL_law_890 : decode cL_law 890 = .ok (.ifCond .eq 5, 3) := by decide +kernel
theorem dL_law_893 : decode cL_law 893 = .ok (.iconst 0, 1) := by decide +kernel
theorem dL_law_894 : decode cL_law 894 = .ok (.ireturn, 1) := by decide +kernel
theorem dL_law_895 : decode cL_law 895 = .ok (.goto 191, 3) := by decide +kernel
theorem dL_law_898 : decode cL_law 898 = .ok (.aload_n 1, 1) := by decide +kernel
theorem dL_law_899 : decode cL_law 899 = .ok (.aload_n 0, 1) := by decide +kernel
theorem dL_law_900 : decode cL_law 900 = .ok (.iload 5, 2) := by decide +kernel
theorem dL_law_902 : decode cL_law 902 = .ok (.iconst 1, 1) := by decide +kernel
theorem dL_law_903 : decode cL_law 903 = .ok (.iadd, 1) := by decide +kernel
theorem dL_law_904 : decode cL_law 904 = .ok (.iaload, 1) := by decide +kernel
theorem dL_law_905 : decode cL_law 905 = .ok (.aload_n 3, 1) := by decide +kernel
theorem dL_law_906 : decode cL_law 906 = .ok (.invokestatic 116, 3) := by decide +kernel
theorem dL_law_909 : decode cL_law 909 = .ok (.istore 6, 2) := by decide +kernel
theorem dL_law_911 : decode cL_law 911 = .ok (.aload_n 2, 1) := by decide +kernel
theorem dL_law_912 : decode cL_law 912 = .ok (.aload_n 0, 1) := by decide +kernel
theorem dL_law_913 : decode cL_law 913 = .ok (.iload 5, 2) := by decide +kernel
theorem dL_law_915 : decode cL_law 915 = .ok (.iconst 1, 1) := by decide +kernel
theorem dL_law_916 : decode cL_law 916 = .ok (.iadd, 1) := by decide +kernel
theorem dL_law_917 : decode cL_law 917 = .ok (.iaload, 1) := by decide +kernel
theorem dL_law_918 : decode cL_law 918 = .ok (.invokevirtual 118, 3) := by decide +kernel
theorem dL_law_921 : decode cL_law 921 = .ok (.lstore 7, 2) := by decide +kernel
theorem dL_law_923 : decode cL_law 923 = .ok (.aload_n 2, 1) := by decide +kernel
theorem dL_law_924 : decode cL_law 924 = .ok (.invokevirtual 77, 3) := by decide +kernel
theorem dL_law_927 : decode cL_law 927 = .ok (.iload 6, 2) := by decide +kernel
theorem dL_law_929 : decode cL_law 929 = .ok (.if_icmp .eq 5, 3) := by decide +kernel
theorem dL_law_932 : decode cL_law 932 = .ok (.iconst 0, 1) := by decide +kernel
theorem dL_law_933 : decode cL_law 933 = .ok (.ireturn, 1) := by decide +kernel
theorem dL_law_934 : decode cL_law 934 = .ok (.iload 6, 2) := by decide +kernel
theorem dL_law_936 : decode cL_law 936 = .ok (.ifCond .ne 14, 3) := by decide +kernel
theorem dL_law_939 : decode cL_law 939 = .ok (.aload_n 3, 1) := by decide +kernel
theorem dL_law_940 : decode cL_law 940 = .ok (.iconst 0, 1) := by decide +kernel
theorem dL_law_941 : decode cL_law 941 = .ok (.laload, 1) := by decide +kernel
theorem dL_law_942 : decode cL_law 942 = .ok (.lload 7, 2) := by decide +kernel
theorem dL_law_944 : decode cL_law 944 = .ok (.lcmp, 1) := by decide +kernel
theorem dL_law_945 : decode cL_law 945 = .ok (.ifCond .eq 5, 3) := by decide +kernel
theorem dL_law_948 : decode cL_law 948 = .ok (.iconst 0, 1) := by decide +kernel
theorem dL_law_949 : decode cL_law 949 = .ok (.ireturn, 1) := by decide +kernel
theorem dL_law_950 : decode cL_law 950 = .ok (.goto 136, 3) := by decide +kernel
theorem dL_law_953 : decode cL_law 953 = .ok (.aload_n 1, 1) := by decide +kernel
theorem dL_law_954 : decode cL_law 954 = .ok (.aload_n 0, 1) := by decide +kernel
theorem dL_law_955 : decode cL_law 955 = .ok (.iload 5, 2) := by decide +kernel
theorem dL_law_957 : decode cL_law 957 = .ok (.iconst 1, 1) := by decide +kernel
theorem dL_law_958 : decode cL_law 958 = .ok (.iadd, 1) := by decide +kernel
theorem dL_law_959 : decode cL_law 959 = .ok (.iaload, 1) := by decide +kernel
theorem dL_law_960 : decode cL_law 960 = .ok (.aload 4, 2) := by decide +kernel
theorem dL_law_962 : decode cL_law 962 = .ok (.invokestatic 119, 3) := by decide +kernel
theorem dL_law_965 : decode cL_law 965 = .ok (.istore 6, 2) := by decide +kernel
theorem dL_law_967 : decode cL_law 967 = .ok (.aload_n 2, 1) := by decide +kernel
theorem dL_law_968 : decode cL_law 968 = .ok (.aload_n 0, 1) := by decide +kernel
theorem dL_law_969 : decode cL_law 969 = .ok (.iload 5, 2) := by decide +kernel
theorem dL_law_971 : decode cL_law 971 = .ok (.iconst 1, 1) := by decide +kernel
theorem dL_law_972 : decode cL_law 972 = .ok (.iadd, 1) := by decide +kernel
theorem dL_law_973 : decode cL_law 973 = .ok (.iaload, 1) := by decide +kernel
theorem dL_law_974 : decode cL_law 974 = .ok (.invokevirtual 122, 3) := by decide +kernel
theorem dL_law_977 : decode cL_law 977 = .ok (.dstore 7, 2) := by decide +kernel
theorem dL_law_979 : decode cL_law 979 = .ok (.aload_n 2, 1) := by decide +kernel
theorem dL_law_980 : decode cL_law 980 = .ok (.invokevirtual 77, 3) := by decide +kernel
theorem dL_law_983 : decode cL_law 983 = .ok (.iload 6, 2) := by decide +kernel
theorem dL_law_985 : decode cL_law 985 = .ok (.if_icmp .eq 5, 3) := by decide +kernel
theorem dL_law_988 : decode cL_law 988 = .ok (.iconst 0, 1) := by decide +kernel
theorem dL_law_989 : decode cL_law 989 = .ok (.ireturn, 1) := by decide +kernel
theorem dL_law_990 : decode cL_law 990 = .ok (.iload 6, 2) := by decide +kernel
theorem dL_law_992 : decode cL_law 992 = .ok (.ifCond .ne 35, 3) := by decide +kernel
theorem dL_law_995 : decode cL_law 995 = .ok (.aload 4, 2) := by decide +kernel
theorem dL_law_997 : decode cL_law 997 = .ok (.iconst 0, 1) := by decide +kernel
theorem dL_law_998 : decode cL_law 998 = .ok (.daload, 1) := by decide +kernel
theorem dL_law_999 : decode cL_law 999 = .ok (.dload 7, 2) := by decide +kernel
theorem dL_law_1001 : decode cL_law 1001 = .ok (.dcmp .l, 1) := by decide +kernel
theorem dL_law_1002 : decode cL_law 1002 = .ok (.ifCond .eq 25, 3) := by decide +kernel
theorem dL_law_1005 : decode cL_law 1005 = .ok (.aload 4, 2) := by decide +kernel
theorem dL_law_1007 : decode cL_law 1007 = .ok (.iconst 0, 1) := by decide +kernel
theorem dL_law_1008 : decode cL_law 1008 = .ok (.daload, 1) := by decide +kernel
theorem dL_law_1009 : decode cL_law 1009 = .ok (.aload 4, 2) := by decide +kernel
theorem dL_law_1011 : decode cL_law 1011 = .ok (.iconst 0, 1) := by decide +kernel
theorem dL_law_1012 : decode cL_law 1012 = .ok (.daload, 1) := by decide +kernel
theorem dL_law_1013 : decode cL_law 1013 = .ok (.dcmp .l, 1) := by decide +kernel
theorem dL_law_1014 : decode cL_law 1014 = .ok (.ifCond .eq 11, 3) := by decide +kernel
theorem dL_law_1017 : decode cL_law 1017 = .ok (.dload 7, 2) := by decide +kernel
theorem dL_law_1019 : decode cL_law 1019 = .ok (.dload 7, 2) := by decide +kernel
theorem dL_law_1021 : decode cL_law 1021 = .ok (.dcmp .l, 1) := by decide +kernel
theorem dL_law_1022 : decode cL_law 1022 = .ok (.ifCond .ne 5, 3) := by decide +kernel
theorem dL_law_1025 : decode cL_law 1025 = .ok (.iconst 0, 1) := by decide +kernel
theorem dL_law_1026 : decode cL_law 1026 = .ok (.ireturn, 1) := by decide +kernel
theorem dL_law_1027 : decode cL_law 1027 = .ok (.goto 59, 3) := by decide +kernel
theorem dL_law_1030 : decode cL_law 1030 = .ok (.aload_n 1, 1) := by decide +kernel
theorem dL_law_1031 : decode cL_law 1031 = .ok (.aload_n 0, 1) := by decide +kernel
theorem dL_law_1032 : decode cL_law 1032 = .ok (.iload 5, 2) := by decide +kernel
theorem dL_law_1034 : decode cL_law 1034 = .ok (.iconst 1, 1) := by decide +kernel
theorem dL_law_1035 : decode cL_law 1035 = .ok (.iadd, 1) := by decide +kernel
theorem dL_law_1036 : decode cL_law 1036 = .ok (.iaload, 1) := by decide +kernel
theorem dL_law_1037 : decode cL_law 1037 = .ok (.aload_n 3, 1) := by decide +kernel
theorem dL_law_1038 : decode cL_law 1038 = .ok (.invokestatic 123, 3) := by decide +kernel
theorem dL_law_1041 : decode cL_law 1041 = .ok (.istore 6, 2) := by decide +kernel
theorem dL_law_1043 : decode cL_law 1043 = .ok (.aload_n 2, 1) := by decide +kernel
theorem dL_law_1044 : decode cL_law 1044 = .ok (.aload_n 0, 1) := by decide +kernel
theorem dL_law_1045 : decode cL_law 1045 = .ok (.iload 5, 2) := by decide +kernel
theorem dL_law_1047 : decode cL_law 1047 = .ok (.iconst 1, 1) := by decide +kernel
theorem dL_law_1048 : decode cL_law 1048 = .ok (.iadd, 1) := by decide +kernel
theorem dL_law_1049 : decode cL_law 1049 = .ok (.iaload, 1) := by decide +kernel
theorem dL_law_1050 : decode cL_law 1050 = .ok (.invokevirtual 125, 3) := by decide +kernel
theorem dL_law_1053 : decode cL_law 1053 = .ok (.istore 7, 2) := by decide +kernel
theorem dL_law_1055 : decode cL_law 1055 = .ok (.aload_n 2, 1) := by decide +kernel
theorem dL_law_1056 : decode cL_law 1056 = .ok (.invokevirtual 77, 3) := by decide +kernel
theorem dL_law_1059 : decode cL_law 1059 = .ok (.iload 6, 2) := by decide +kernel
theorem dL_law_1061 : decode cL_law 1061 = .ok (.if_icmp .eq 5, 3) := by decide +kernel
theorem dL_law_1064 : decode cL_law 1064 = .ok (.iconst 0, 1) := by decide +kernel
theorem dL_law_1065 : decode cL_law 1065 = .ok (.ireturn, 1) := by decide +kernel
theorem dL_law_1066 : decode cL_law 1066 = .ok (.iload 6, 2) := by decide +kernel
theorem dL_law_1068 : decode cL_law 1068 = .ok (.ifCond .ne 15, 3) := by decide +kernel
theorem dL_law_1071 : decode cL_law 1071 = .ok (.aload_n 3, 1) := by decide +kernel
theorem dL_law_1072 : decode cL_law 1072 = .ok (.iconst 0, 1) := by decide +kernel
theorem dL_law_1073 : decode cL_law 1073 = .ok (.laload, 1) := by decide +kernel
theorem dL_law_1074 : decode cL_law 1074 = .ok (.iload 7, 2) := by decide +kernel
theorem dL_law_1076 : decode cL_law 1076 = .ok (.i2l, 1) := by decide +kernel
theorem dL_law_1077 : decode cL_law 1077 = .ok (.lcmp, 1) := by decide +kernel
theorem dL_law_1078 : decode cL_law 1078 = .ok (.ifCond .eq 5, 3) := by decide +kernel
theorem dL_law_1081 : decode cL_law 1081 = .ok (.iconst 0, 1) := by decide +kernel
theorem dL_law_1082 : decode cL_law 1082 = .ok (.ireturn, 1) := by decide +kernel
theorem dL_law_1083 : decode cL_law 1083 = .ok (.goto 3, 3) := by decide +kernel
theorem dL_law_1086 : decode cL_law 1086 = .ok (.iinc 5 4, 3) := by decide +kernel
theorem dL_law_1089 : decode cL_law 1089 = .ok (.goto (-1061), 3) := by decide +kernel
theorem dL_law_1092 : decode cL_law 1092 = .ok (.iconst 1, 1) := by decide +kernel
theorem dL_law_1093 : decode cL_law 1093 = .ok (.ireturn, 1) := by decide +kernel
end
