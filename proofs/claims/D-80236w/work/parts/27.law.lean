/-! THE LAW'S BODY (printed by gen/mklaw.py): JL_law_23 is what one turn of the loop asks -/
set_option maxRecDepth 100000
abbrev cL_law : ByteArray := code
theorem dL_law_0 : decode cL_law 0 = .ok (.new 8, 3) := by decide +kernel
theorem dL_law_3 : decode cL_law 3 = .ok (.dup, 1) := by decide +kernel
theorem dL_law_4 : decode cL_law 4 = .ok (.invokespecial 65, 3) := by decide +kernel
theorem dL_law_7 : decode cL_law 7 = .ok (.astore_n 1, 1) := by decide +kernel
theorem dL_law_8 : decode cL_law 8 = .ok (.new 66, 3) := by decide +kernel
theorem dL_law_11 : decode cL_law 11 = .ok (.dup, 1) := by decide +kernel
theorem dL_law_12 : decode cL_law 12 = .ok (.invokespecial 68, 3) := by decide +kernel
theorem dL_law_15 : decode cL_law 15 = .ok (.astore_n 2, 1) := by decide +kernel
theorem dL_law_16 : decode cL_law 16 = .ok (.iconst 1, 1) := by decide +kernel
theorem dL_law_17 : decode cL_law 17 = .ok (.newarray .long, 2) := by decide +kernel
theorem dL_law_19 : decode cL_law 19 = .ok (.astore_n 3, 1) := by decide +kernel
theorem dL_law_20 : decode cL_law 20 = .ok (.iconst 0, 1) := by decide +kernel
theorem dL_law_21 : decode cL_law 21 = .ok (.istore 4, 2) := by decide +kernel
theorem dL_law_23 : decode cL_law 23 = .ok (.iload 4, 2) := by decide +kernel
theorem dL_law_25 : decode cL_law 25 = .ok (.aload_n 0, 1) := by decide +kernel
theorem dL_law_26 : decode cL_law 26 = .ok (.arraylength, 1) := by decide +kernel
theorem dL_law_27 : decode cL_law 27 = .ok (.bipush 6, 2) := by decide +kernel
theorem dL_law_29 : decode cL_law 29 = .ok (.isub, 1) := by decide +kernel
theorem dL_law_30 : decode cL_law 30 = .ok (.if_icmp .gt 1083, 3) := by decide +kernel
theorem dL_law_33 : decode cL_law 33 = .ok (.aload_n 0, 1) := by decide +kernel
theorem dL_law_34 : decode cL_law 34 = .ok (.iload 4, 2) := by decide +kernel
theorem dL_law_36 : decode cL_law 36 = .ok (.iaload, 1) := by decide +kernel
theorem dL_law_37 : decode cL_law 37 = .ok (.bipush 15, 2) := by decide +kernel
theorem dL_law_39 : decode cL_law 39 = .ok (.iand, 1) := by decide +kernel
theorem dL_law_40 : decode cL_law 40 = .ok (.tableswitch 1067 0 15 #[80, 184, 240, 253, 266, 334, 378, 453, 533, 608, 700, 744, 812, 892, 948, 1004], 80) := by decide +kernel
theorem dL_law_120 : decode cL_law 120 = .ok (.aload_n 1, 1) := by decide +kernel
theorem dL_law_121 : decode cL_law 121 = .ok (.aload_n 0, 1) := by decide +kernel
theorem dL_law_122 : decode cL_law 122 = .ok (.iload 4, 2) := by decide +kernel
theorem dL_law_124 : decode cL_law 124 = .ok (.iconst 1, 1) := by decide +kernel
theorem dL_law_125 : decode cL_law 125 = .ok (.iadd, 1) := by decide +kernel
theorem dL_law_126 : decode cL_law 126 = .ok (.iaload, 1) := by decide +kernel
theorem dL_law_127 : decode cL_law 127 = .ok (.aload_n 0, 1) := by decide +kernel
theorem dL_law_128 : decode cL_law 128 = .ok (.iload 4, 2) := by decide +kernel
theorem dL_law_130 : decode cL_law 130 = .ok (.iconst 2, 1) := by decide +kernel
theorem dL_law_131 : decode cL_law 131 = .ok (.iadd, 1) := by decide +kernel
theorem dL_law_132 : decode cL_law 132 = .ok (.iaload, 1) := by decide +kernel
theorem dL_law_133 : decode cL_law 133 = .ok (.aload_n 0, 1) := by decide +kernel
theorem dL_law_134 : decode cL_law 134 = .ok (.iload 4, 2) := by decide +kernel
theorem dL_law_136 : decode cL_law 136 = .ok (.iconst 3, 1) := by decide +kernel
theorem dL_law_137 : decode cL_law 137 = .ok (.iadd, 1) := by decide +kernel
theorem dL_law_138 : decode cL_law 138 = .ok (.iaload, 1) := by decide +kernel
theorem dL_law_139 : decode cL_law 139 = .ok (.aload_n 0, 1) := by decide +kernel
theorem dL_law_140 : decode cL_law 140 = .ok (.iload 4, 2) := by decide +kernel
theorem dL_law_142 : decode cL_law 142 = .ok (.iconst 4, 1) := by decide +kernel
theorem dL_law_143 : decode cL_law 143 = .ok (.iadd, 1) := by decide +kernel
theorem dL_law_144 : decode cL_law 144 = .ok (.iaload, 1) := by decide +kernel
theorem dL_law_145 : decode cL_law 145 = .ok (.aload_n 0, 1) := by decide +kernel
theorem dL_law_146 : decode cL_law 146 = .ok (.iload 4, 2) := by decide +kernel
theorem dL_law_148 : decode cL_law 148 = .ok (.iconst 5, 1) := by decide +kernel
theorem dL_law_149 : decode cL_law 149 = .ok (.iadd, 1) := by decide +kernel
theorem dL_law_150 : decode cL_law 150 = .ok (.iaload, 1) := by decide +kernel
theorem dL_law_151 : decode cL_law 151 = .ok (.aload_n 3, 1) := by decide +kernel
theorem dL_law_152 : decode cL_law 152 = .ok (.invokestatic 69, 3) := by decide +kernel
theorem dL_law_155 : decode cL_law 155 = .ok (.istore 5, 2) := by decide +kernel
theorem dL_law_157 : decode cL_law 157 = .ok (.aload_n 2, 1) := by decide +kernel
theorem dL_law_158 : decode cL_law 158 = .ok (.aload_n 0, 1) := by decide +kernel
theorem dL_law_159 : decode cL_law 159 = .ok (.iload 4, 2) := by decide +kernel
theorem dL_law_161 : decode cL_law 161 = .ok (.iconst 1, 1) := by decide +kernel
theorem dL_law_162 : decode cL_law 162 = .ok (.iadd, 1) := by decide +kernel
theorem dL_law_163 : decode cL_law 163 = .ok (.iaload, 1) := by decide +kernel
theorem dL_law_164 : decode cL_law 164 = .ok (.aload_n 0, 1) := by decide +kernel
theorem dL_law_165 : decode cL_law 165 = .ok (.iload 4, 2) := by decide +kernel
theorem dL_law_167 : decode cL_law 167 = .ok (.iconst 2, 1) := by decide +kernel
theorem dL_law_168 : decode cL_law 168 = .ok (.iadd, 1) := by decide +kernel
theorem dL_law_169 : decode cL_law 169 = .ok (.iaload, 1) := by decide +kernel
theorem dL_law_170 : decode cL_law 170 = .ok (.aload_n 0, 1) := by decide +kernel
theorem dL_law_171 : decode cL_law 171 = .ok (.iload 4, 2) := by decide +kernel
theorem dL_law_173 : decode cL_law 173 = .ok (.iconst 3, 1) := by decide +kernel
theorem dL_law_174 : decode cL_law 174 = .ok (.iadd, 1) := by decide +kernel
theorem dL_law_175 : decode cL_law 175 = .ok (.iaload, 1) := by decide +kernel
theorem dL_law_176 : decode cL_law 176 = .ok (.aload_n 0, 1) := by decide +kernel
theorem dL_law_177 : decode cL_law 177 = .ok (.iload 4, 2) := by decide +kernel
theorem dL_law_179 : decode cL_law 179 = .ok (.iconst 4, 1) := by decide +kernel
theorem dL_law_180 : decode cL_law 180 = .ok (.iadd, 1) := by decide +kernel
theorem dL_law_181 : decode cL_law 181 = .ok (.iaload, 1) := by decide +kernel
theorem dL_law_182 : decode cL_law 182 = .ok (.aload_n 0, 1) := by decide +kernel
theorem dL_law_183 : decode cL_law 183 = .ok (.iload 4, 2) := by decide +kernel
theorem dL_law_185 : decode cL_law 185 = .ok (.iconst 5, 1) := by decide +kernel
theorem dL_law_186 : decode cL_law 186 = .ok (.iadd, 1) := by decide +kernel
theorem dL_law_187 : decode cL_law 187 = .ok (.iaload, 1) := by decide +kernel
theorem dL_law_188 : decode cL_law 188 = .ok (.invokevirtual 74, 3) := by decide +kernel
theorem dL_law_191 : decode cL_law 191 = .ok (.istore 6, 2) := by decide +kernel
theorem dL_law_193 : decode cL_law 193 = .ok (.aload_n 2, 1) := by decide +kernel
theorem dL_law_194 : decode cL_law 194 = .ok (.invokevirtual 75, 3) := by decide +kernel
theorem dL_law_197 : decode cL_law 197 = .ok (.iload 5, 2) := by decide +kernel
theorem dL_law_199 : decode cL_law 199 = .ok (.if_icmp .eq 5, 3) := by decide +kernel
theorem dL_law_202 : decode cL_law 202 = .ok (.iconst 0, 1) := by decide +kernel
theorem dL_law_203 : decode cL_law 203 = .ok (.ireturn, 1) := by decide +kernel
theorem dL_law_204 : decode cL_law 204 = .ok (.iload 5, 2) := by decide +kernel
theorem dL_law_206 : decode cL_law 206 = .ok (.ifCond .ne 15, 3) := by decide +kernel
theorem dL_law_209 : decode cL_law 209 = .ok (.aload_n 3, 1) := by decide +kernel
theorem dL_law_210 : decode cL_law 210 = .ok (.iconst 0, 1) := by decide +kernel
theorem dL_law_211 : decode cL_law 211 = .ok (.laload, 1) := by decide +kernel
theorem dL_law_212 : decode cL_law 212 = .ok (.iload 6, 2) := by decide +kernel
theorem dL_law_214 : decode cL_law 214 = .ok (.i2l, 1) := by decide +kernel
theorem dL_law_215 : decode cL_law 215 = .ok (.lcmp, 1) := by decide +kernel
theorem dL_law_216 : decode cL_law 216 = .ok (.ifCond .eq 5, 3) := by decide +kernel
theorem dL_law_219 : decode cL_law 219 = .ok (.iconst 0, 1) := by decide +kernel
theorem dL_law_220 : decode cL_law 220 = .ok (.ireturn, 1) := by decide +kernel
theorem dL_law_221 : decode cL_law 221 = .ok (.goto 886, 3) := by decide +kernel
theorem dL_law_224 : decode cL_law 224 = .ok (.aload_n 1, 1) := by decide +kernel
theorem dL_law_225 : decode cL_law 225 = .ok (.aload_n 0, 1) := by decide +kernel
theorem dL_law_226 : decode cL_law 226 = .ok (.iload 4, 2) := by decide +kernel
theorem dL_law_228 : decode cL_law 228 = .ok (.iconst 1, 1) := by decide +kernel
theorem dL_law_229 : decode cL_law 229 = .ok (.iadd, 1) := by decide +kernel
theorem dL_law_230 : decode cL_law 230 = .ok (.iaload, 1) := by decide +kernel
theorem dL_law_231 : decode cL_law 231 = .ok (.aload_n 3, 1) := by decide +kernel
theorem dL_law_232 : decode cL_law 232 = .ok (.invokestatic 78, 3) := by decide +kernel
theorem dL_law_235 : decode cL_law 235 = .ok (.istore 5, 2) := by decide +kernel
theorem dL_law_237 : decode cL_law 237 = .ok (.aload_n 2, 1) := by decide +kernel
theorem dL_law_238 : decode cL_law 238 = .ok (.aload_n 0, 1) := by decide +kernel
theorem dL_law_239 : decode cL_law 239 = .ok (.iload 4, 2) := by decide +kernel
theorem dL_law_241 : decode cL_law 241 = .ok (.iconst 1, 1) := by decide +kernel
theorem dL_law_242 : decode cL_law 242 = .ok (.iadd, 1) := by decide +kernel
theorem dL_law_243 : decode cL_law 243 = .ok (.iaload, 1) := by decide +kernel
theorem dL_law_244 : decode cL_law 244 = .ok (.invokevirtual 81, 3) := by decide +kernel
theorem dL_law_247 : decode cL_law 247 = .ok (.istore 6, 2) := by decide +kernel
theorem dL_law_249 : decode cL_law 249 = .ok (.aload_n 2, 1) := by decide +kernel
theorem dL_law_250 : decode cL_law 250 = .ok (.invokevirtual 75, 3) := by decide +kernel
theorem dL_law_253 : decode cL_law 253 = .ok (.iload 5, 2) := by decide +kernel
theorem dL_law_255 : decode cL_law 255 = .ok (.if_icmp .eq 5, 3) := by decide +kernel
theorem dL_law_258 : decode cL_law 258 = .ok (.iconst 0, 1) := by decide +kernel
theorem dL_law_259 : decode cL_law 259 = .ok (.ireturn, 1) := by decide +kernel
theorem dL_law_260 : decode cL_law 260 = .ok (.iload 5, 2) := by decide +kernel
theorem dL_law_262 : decode cL_law 262 = .ok (.ifCond .ne 15, 3) := by decide +kernel
theorem dL_law_265 : decode cL_law 265 = .ok (.aload_n 3, 1) := by decide +kernel
theorem dL_law_266 : decode cL_law 266 = .ok (.iconst 0, 1) := by decide +kernel
theorem dL_law_267 : decode cL_law 267 = .ok (.laload, 1) := by decide +kernel
theorem dL_law_268 : decode cL_law 268 = .ok (.iload 6, 2) := by decide +kernel
theorem dL_law_270 : decode cL_law 270 = .ok (.i2l, 1) := by decide +kernel
theorem dL_law_271 : decode cL_law 271 = .ok (.lcmp, 1) := by decide +kernel
theorem dL_law_272 : decode cL_law 272 = .ok (.ifCond .eq 5, 3) := by decide +kernel
theorem dL_law_275 : decode cL_law 275 = .ok (.iconst 0, 1) := by decide +kernel
theorem dL_law_276 : decode cL_law 276 = .ok (.ireturn, 1) := by decide +kernel
theorem dL_law_277 : decode cL_law 277 = .ok (.goto 830, 3) := by decide +kernel
theorem dL_law_280 : decode cL_law 280 = .ok (.aload_n 1, 1) := by decide +kernel
theorem dL_law_281 : decode cL_law 281 = .ok (.invokevirtual 82, 3) := by decide +kernel
theorem dL_law_284 : decode cL_law 284 = .ok (.aload_n 2, 1) := by decide +kernel
theorem dL_law_285 : decode cL_law 285 = .ok (.invokevirtual 85, 3) := by decide +kernel
theorem dL_law_288 : decode cL_law 288 = .ok (.if_icmp .eq 819, 3) := by decide +kernel
theorem dL_law_291 : decode cL_law 291 = .ok (.iconst 0, 1) := by decide +kernel
theorem dL_law_292 : decode cL_law 292 = .ok (.ireturn, 1) := by decide +kernel
theorem dL_law_293 : decode cL_law 293 = .ok (.aload_n 1, 1) := by decide +kernel
theorem dL_law_294 : decode cL_law 294 = .ok (.invokevirtual 86, 3) := by decide +kernel
theorem dL_law_297 : decode cL_law 297 = .ok (.aload_n 2, 1) := by decide +kernel
theorem dL_law_298 : decode cL_law 298 = .ok (.invokevirtual 89, 3) := by decide +kernel
theorem dL_law_301 : decode cL_law 301 = .ok (.if_icmp .eq 806, 3) := by decide +kernel
theorem dL_law_304 : decode cL_law 304 = .ok (.iconst 0, 1) := by decide +kernel
theorem dL_law_305 : decode cL_law 305 = .ok (.ireturn, 1) := by decide +kernel
theorem dL_law_306 : decode cL_law 306 = .ok (.aload_n 1, 1) := by decide +kernel
theorem dL_law_307 : decode cL_law 307 = .ok (.aload_n 0, 1) := by decide +kernel
theorem dL_law_308 : decode cL_law 308 = .ok (.iload 4, 2) := by decide +kernel
theorem dL_law_310 : decode cL_law 310 = .ok (.iconst 1, 1) := by decide +kernel
theorem dL_law_311 : decode cL_law 311 = .ok (.iadd, 1) := by decide +kernel
theorem dL_law_312 : decode cL_law 312 = .ok (.iaload, 1) := by decide +kernel
theorem dL_law_313 : decode cL_law 313 = .ok (.aload_n 0, 1) := by decide +kernel
theorem dL_law_314 : decode cL_law 314 = .ok (.iload 4, 2) := by decide +kernel
theorem dL_law_316 : decode cL_law 316 = .ok (.iconst 2, 1) := by decide +kernel
theorem dL_law_317 : decode cL_law 317 = .ok (.iadd, 1) := by decide +kernel
theorem dL_law_318 : decode cL_law 318 = .ok (.iaload, 1) := by decide +kernel
theorem dL_law_319 : decode cL_law 319 = .ok (.aload_n 3, 1) := by decide +kernel
theorem dL_law_320 : decode cL_law 320 = .ok (.invokestatic 90, 3) := by decide +kernel
theorem dL_law_323 : decode cL_law 323 = .ok (.istore 5, 2) := by decide +kernel
theorem dL_law_325 : decode cL_law 325 = .ok (.aload_n 2, 1) := by decide +kernel
theorem dL_law_326 : decode cL_law 326 = .ok (.aload_n 0, 1) := by decide +kernel
theorem dL_law_327 : decode cL_law 327 = .ok (.iload 4, 2) := by decide +kernel
theorem dL_law_329 : decode cL_law 329 = .ok (.iconst 1, 1) := by decide +kernel
theorem dL_law_330 : decode cL_law 330 = .ok (.iadd, 1) := by decide +kernel
theorem dL_law_331 : decode cL_law 331 = .ok (.iaload, 1) := by decide +kernel
theorem dL_law_332 : decode cL_law 332 = .ok (.aload_n 0, 1) := by decide +kernel
theorem dL_law_333 : decode cL_law 333 = .ok (.iload 4, 2) := by decide +kernel
theorem dL_law_335 : decode cL_law 335 = .ok (.iconst 2, 1) := by decide +kernel
theorem dL_law_336 : decode cL_law 336 = .ok (.iadd, 1) := by decide +kernel
theorem dL_law_337 : decode cL_law 337 = .ok (.iaload, 1) := by decide +kernel
theorem dL_law_338 : decode cL_law 338 = .ok (.invokevirtual 93, 3) := by decide +kernel
theorem dL_law_341 : decode cL_law 341 = .ok (.istore 6, 2) := by decide +kernel
theorem dL_law_343 : decode cL_law 343 = .ok (.aload_n 2, 1) := by decide +kernel
theorem dL_law_344 : decode cL_law 344 = .ok (.invokevirtual 75, 3) := by decide +kernel
theorem dL_law_347 : decode cL_law 347 = .ok (.iload 5, 2) := by decide +kernel
theorem dL_law_349 : decode cL_law 349 = .ok (.if_icmp .eq 5, 3) := by decide +kernel
theorem dL_law_352 : decode cL_law 352 = .ok (.iconst 0, 1) := by decide +kernel
theorem dL_law_353 : decode cL_law 353 = .ok (.ireturn, 1) := by decide +kernel
theorem dL_law_354 : decode cL_law 354 = .ok (.iload 5, 2) := by decide +kernel
theorem dL_law_356 : decode cL_law 356 = .ok (.ifCond .ne 15, 3) := by decide +kernel
theorem dL_law_359 : decode cL_law 359 = .ok (.aload_n 3, 1) := by decide +kernel
theorem dL_law_360 : decode cL_law 360 = .ok (.iconst 0, 1) := by decide +kernel
theorem dL_law_361 : decode cL_law 361 = .ok (.laload, 1) := by decide +kernel
theorem dL_law_362 : decode cL_law 362 = .ok (.iload 6, 2) := by decide +kernel
theorem dL_law_364 : decode cL_law 364 = .ok (.i2l, 1) := by decide +kernel
theorem dL_law_365 : decode cL_law 365 = .ok (.lcmp, 1) := by decide +kernel
theorem dL_law_366 : decode cL_law 366 = .ok (.ifCond .eq 5, 3) := by decide +kernel
theorem dL_law_369 : decode cL_law 369 = .ok (.iconst 0, 1) := by decide +kernel
theorem dL_law_370 : decode cL_law 370 = .ok (.ireturn, 1) := by decide +kernel
theorem dL_law_371 : decode cL_law 371 = .ok (.goto 736, 3) := by decide +kernel
theorem dL_law_374 : decode cL_law 374 = .ok (.aload_n 1, 1) := by decide +kernel
theorem dL_law_375 : decode cL_law 375 = .ok (.aload_n 3, 1) := by decide +kernel
theorem dL_law_376 : decode cL_law 376 = .ok (.invokestatic 94, 3) := by decide +kernel
theorem dL_law_379 : decode cL_law 379 = .ok (.istore 5, 2) := by decide +kernel
theorem dL_law_381 : decode cL_law 381 = .ok (.aload_n 2, 1) := by decide +kernel
theorem dL_law_382 : decode cL_law 382 = .ok (.invokevirtual 97, 3) := by decide +kernel
theorem dL_law_385 : decode cL_law 385 = .ok (.istore 6, 2) := by decide +kernel
theorem dL_law_387 : decode cL_law 387 = .ok (.aload_n 2, 1) := by decide +kernel
theorem dL_law_388 : decode cL_law 388 = .ok (.invokevirtual 75, 3) := by decide +kernel
theorem dL_law_391 : decode cL_law 391 = .ok (.iload 5, 2) := by decide +kernel
theorem dL_law_393 : decode cL_law 393 = .ok (.if_icmp .eq 5, 3) := by decide +kernel
theorem dL_law_396 : decode cL_law 396 = .ok (.iconst 0, 1) := by decide +kernel
theorem dL_law_397 : decode cL_law 397 = .ok (.ireturn, 1) := by decide +kernel
theorem dL_law_398 : decode cL_law 398 = .ok (.iload 5, 2) := by decide +kernel
theorem dL_law_400 : decode cL_law 400 = .ok (.ifCond .ne 15, 3) := by decide +kernel
theorem dL_law_403 : decode cL_law 403 = .ok (.aload_n 3, 1) := by decide +kernel
theorem dL_law_404 : decode cL_law 404 = .ok (.iconst 0, 1) := by decide +kernel
theorem dL_law_405 : decode cL_law 405 = .ok (.laload, 1) := by decide +kernel
theorem dL_law_406 : decode cL_law 406 = .ok (.iload 6, 2) := by decide +kernel
theorem dL_law_408 : decode cL_law 408 = .ok (.i2l, 1) := by decide +kernel
theorem dL_law_409 : decode cL_law 409 = .ok (.lcmp, 1) := by decide +kernel
theorem dL_law_410 : decode cL_law 410 = .ok (.ifCond .eq 5, 3) := by decide +kernel
theorem dL_law_413 : decode cL_law 413 = .ok (.iconst 0, 1) := by decide +kernel
theorem dL_law_414 : decode cL_law 414 = .ok (.ireturn, 1) := by decide +kernel
theorem dL_law_415 : decode cL_law 415 = .ok (.goto 692, 3) := by decide +kernel
theorem dL_law_418 : decode cL_law 418 = .ok (.aload_n 1, 1) := by decide +kernel
theorem dL_law_419 : decode cL_law 419 = .ok (.aload_n 0, 1) := by decide +kernel
theorem dL_law_420 : decode cL_law 420 = .ok (.iload 4, 2) := by decide +kernel
theorem dL_law_422 : decode cL_law 422 = .ok (.iconst 1, 1) := by decide +kernel
theorem dL_law_423 : decode cL_law 423 = .ok (.iadd, 1) := by decide +kernel
theorem dL_law_424 : decode cL_law 424 = .ok (.iaload, 1) := by decide +kernel
theorem dL_law_425 : decode cL_law 425 = .ok (.aload_n 0, 1) := by decide +kernel
theorem dL_law_426 : decode cL_law 426 = .ok (.iload 4, 2) := by decide +kernel
theorem dL_law_428 : decode cL_law 428 = .ok (.iconst 2, 1) := by decide +kernel
theorem dL_law_429 : decode cL_law 429 = .ok (.iadd, 1) := by decide +kernel
theorem dL_law_430 : decode cL_law 430 = .ok (.iaload, 1) := by decide +kernel
theorem dL_law_431 : decode cL_law 431 = .ok (.aload_n 3, 1) := by decide +kernel
theorem dL_law_432 : decode cL_law 432 = .ok (.invokestatic 98, 3) := by decide +kernel
theorem dL_law_435 : decode cL_law 435 = .ok (.istore 5, 2) := by decide +kernel
theorem dL_law_437 : decode cL_law 437 = .ok (.aload_n 2, 1) := by decide +kernel
theorem dL_law_438 : decode cL_law 438 = .ok (.aload_n 0, 1) := by decide +kernel
theorem dL_law_439 : decode cL_law 439 = .ok (.iload 4, 2) := by decide +kernel
theorem dL_law_441 : decode cL_law 441 = .ok (.iconst 1, 1) := by decide +kernel
theorem dL_law_442 : decode cL_law 442 = .ok (.iadd, 1) := by decide +kernel
theorem dL_law_443 : decode cL_law 443 = .ok (.iaload, 1) := by decide +kernel
theorem dL_law_444 : decode cL_law 444 = .ok (.aload_n 0, 1) := by decide +kernel
theorem dL_law_445 : decode cL_law 445 = .ok (.iload 4, 2) := by decide +kernel
theorem dL_law_447 : decode cL_law 447 = .ok (.iconst 2, 1) := by decide +kernel
theorem dL_law_448 : decode cL_law 448 = .ok (.iadd, 1) := by decide +kernel
theorem dL_law_449 : decode cL_law 449 = .ok (.iaload, 1) := by decide +kernel
theorem dL_law_450 : decode cL_law 450 = .ok (.invokevirtual 100, 3) := by decide +kernel
theorem dL_law_453 : decode cL_law 453 = .ok (.istore 6, 2) := by decide +kernel
theorem dL_law_455 : decode cL_law 455 = .ok (.aload_n 2, 1) := by decide +kernel
theorem dL_law_456 : decode cL_law 456 = .ok (.invokevirtual 75, 3) := by decide +kernel
theorem dL_law_459 : decode cL_law 459 = .ok (.iload 5, 2) := by decide +kernel
theorem dL_law_461 : decode cL_law 461 = .ok (.if_icmp .eq 5, 3) := by decide +kernel
theorem dL_law_464 : decode cL_law 464 = .ok (.iconst 0, 1) := by decide +kernel
theorem dL_law_465 : decode cL_law 465 = .ok (.ireturn, 1) := by decide +kernel
theorem dL_law_466 : decode cL_law 466 = .ok (.iload 5, 2) := by decide +kernel
theorem dL_law_468 : decode cL_law 468 = .ok (.ifCond .ne 22, 3) := by decide +kernel
theorem dL_law_471 : decode cL_law 471 = .ok (.aload_n 3, 1) := by decide +kernel
theorem dL_law_472 : decode cL_law 472 = .ok (.iconst 0, 1) := by decide +kernel
theorem dL_law_473 : decode cL_law 473 = .ok (.laload, 1) := by decide +kernel
theorem dL_law_474 : decode cL_law 474 = .ok (.iload 6, 2) := by decide +kernel
theorem dL_law_476 : decode cL_law 476 = .ok (.ifCond .eq 7, 3) := by decide +kernel
theorem dL_law_479 : decode cL_law 479 = .ok (.lconst 1, 1) := by decide +kernel
theorem dL_law_480 : decode cL_law 480 = .ok (.goto 4, 3) := by decide +kernel
theorem dL_law_483 : decode cL_law 483 = .ok (.lconst 0, 1) := by decide +kernel
theorem dL_law_484 : decode cL_law 484 = .ok (.lcmp, 1) := by decide +kernel
theorem dL_law_485 : decode cL_law 485 = .ok (.ifCond .eq 5, 3) := by decide +kernel
theorem dL_law_488 : decode cL_law 488 = .ok (.iconst 0, 1) := by decide +kernel
theorem dL_law_489 : decode cL_law 489 = .ok (.ireturn, 1) := by decide +kernel
theorem dL_law_490 : decode cL_law 490 = .ok (.goto 617, 3) := by decide +kernel
theorem dL_law_493 : decode cL_law 493 = .ok (.aload_n 1, 1) := by decide +kernel
theorem dL_law_494 : decode cL_law 494 = .ok (.aload_n 0, 1) := by decide +kernel
theorem dL_law_495 : decode cL_law 495 = .ok (.iload 4, 2) := by decide +kernel
theorem dL_law_497 : decode cL_law 497 = .ok (.iconst 1, 1) := by decide +kernel
theorem dL_law_498 : decode cL_law 498 = .ok (.iadd, 1) := by decide +kernel
theorem dL_law_499 : decode cL_law 499 = .ok (.iaload, 1) := by decide +kernel
theorem dL_law_500 : decode cL_law 500 = .ok (.aload_n 0, 1) := by decide +kernel
theorem dL_law_501 : decode cL_law 501 = .ok (.iload 4, 2) := by decide +kernel
theorem dL_law_503 : decode cL_law 503 = .ok (.iconst 2, 1) := by decide +kernel
theorem dL_law_504 : decode cL_law 504 = .ok (.iadd, 1) := by decide +kernel
theorem dL_law_505 : decode cL_law 505 = .ok (.iaload, 1) := by decide +kernel
theorem dL_law_506 : decode cL_law 506 = .ok (.aload_n 0, 1) := by decide +kernel
theorem dL_law_507 : decode cL_law 507 = .ok (.iload 4, 2) := by decide +kernel
theorem dL_law_509 : decode cL_law 509 = .ok (.iconst 3, 1) := by decide +kernel
theorem dL_law_510 : decode cL_law 510 = .ok (.iadd, 1) := by decide +kernel
theorem dL_law_511 : decode cL_law 511 = .ok (.iaload, 1) := by decide +kernel
theorem dL_law_512 : decode cL_law 512 = .ok (.aload_n 3, 1) := by decide +kernel
theorem dL_law_513 : decode cL_law 513 = .ok (.invokestatic 101, 3) := by decide +kernel
theorem dL_law_516 : decode cL_law 516 = .ok (.istore 5, 2) := by decide +kernel
theorem dL_law_518 : decode cL_law 518 = .ok (.aload_n 2, 1) := by decide +kernel
theorem dL_law_519 : decode cL_law 519 = .ok (.aload_n 0, 1) := by decide +kernel
theorem dL_law_520 : decode cL_law 520 = .ok (.iload 4, 2) := by decide +kernel
theorem dL_law_522 : decode cL_law 522 = .ok (.iconst 1, 1) := by decide +kernel
theorem dL_law_523 : decode cL_law 523 = .ok (.iadd, 1) := by decide +kernel
theorem dL_law_524 : decode cL_law 524 = .ok (.iaload, 1) := by decide +kernel
theorem dL_law_525 : decode cL_law 525 = .ok (.aload_n 0, 1) := by decide +kernel
theorem dL_law_526 : decode cL_law 526 = .ok (.iload 4, 2) := by decide +kernel
theorem dL_law_528 : decode cL_law 528 = .ok (.iconst 2, 1) := by decide +kernel
theorem dL_law_529 : decode cL_law 529 = .ok (.iadd, 1) := by decide +kernel
theorem dL_law_530 : decode cL_law 530 = .ok (.iaload, 1) := by decide +kernel
theorem dL_law_531 : decode cL_law 531 = .ok (.aload_n 0, 1) := by decide +kernel
theorem dL_law_532 : decode cL_law 532 = .ok (.iload 4, 2) := by decide +kernel
theorem dL_law_534 : decode cL_law 534 = .ok (.iconst 3, 1) := by decide +kernel
theorem dL_law_535 : decode cL_law 535 = .ok (.iadd, 1) := by decide +kernel
theorem dL_law_536 : decode cL_law 536 = .ok (.iaload, 1) := by decide +kernel
theorem dL_law_537 : decode cL_law 537 = .ok (.invokevirtual 104, 3) := by decide +kernel
theorem dL_law_540 : decode cL_law 540 = .ok (.istore 6, 2) := by decide +kernel
theorem dL_law_542 : decode cL_law 542 = .ok (.aload_n 2, 1) := by decide +kernel
theorem dL_law_543 : decode cL_law 543 = .ok (.invokevirtual 75, 3) := by decide +kernel
theorem dL_law_546 : decode cL_law 546 = .ok (.iload 5, 2) := by decide +kernel
theorem dL_law_548 : decode cL_law 548 = .ok (.if_icmp .eq 5, 3) := by decide +kernel
theorem dL_law_551 : decode cL_law 551 = .ok (.iconst 0, 1) := by decide +kernel
theorem dL_law_552 : decode cL_law 552 = .ok (.ireturn, 1) := by decide +kernel
theorem dL_law_553 : decode cL_law 553 = .ok (.iload 5, 2) := by decide +kernel
theorem dL_law_555 : decode cL_law 555 = .ok (.ifCond .ne 15, 3) := by decide +kernel
theorem dL_law_558 : decode cL_law 558 = .ok (.aload_n 3, 1) := by decide +kernel
theorem dL_law_559 : decode cL_law 559 = .ok (.iconst 0, 1) := by decide +kernel
theorem dL_law_560 : decode cL_law 560 = .ok (.laload, 1) := by decide +kernel
theorem dL_law_561 : decode cL_law 561 = .ok (.iload 6, 2) := by decide +kernel
theorem dL_law_563 : decode cL_law 563 = .ok (.i2l, 1) := by decide +kernel
theorem dL_law_564 : decode cL_law 564 = .ok (.lcmp, 1) := by decide +kernel
theorem dL_law_565 : decode cL_law 565 = .ok (.ifCond .eq 5, 3) := by decide +kernel
theorem dL_law_568 : decode cL_law 568 = .ok (.iconst 0, 1) := by decide +kernel
theorem dL_law_569 : decode cL_law 569 = .ok (.ireturn, 1) := by decide +kernel
theorem dL_law_570 : decode cL_law 570 = .ok (.goto 537, 3) := by decide +kernel
theorem dL_law_573 : decode cL_law 573 = .ok (.aload_n 1, 1) := by decide +kernel
theorem dL_law_574 : decode cL_law 574 = .ok (.aload_n 0, 1) := by decide +kernel
theorem dL_law_575 : decode cL_law 575 = .ok (.iload 4, 2) := by decide +kernel
theorem dL_law_577 : decode cL_law 577 = .ok (.iconst 1, 1) := by decide +kernel
theorem dL_law_578 : decode cL_law 578 = .ok (.iadd, 1) := by decide +kernel
theorem dL_law_579 : decode cL_law 579 = .ok (.iaload, 1) := by decide +kernel
theorem dL_law_580 : decode cL_law 580 = .ok (.aload_n 0, 1) := by decide +kernel
theorem dL_law_581 : decode cL_law 581 = .ok (.iload 4, 2) := by decide +kernel
theorem dL_law_583 : decode cL_law 583 = .ok (.iconst 2, 1) := by decide +kernel
theorem dL_law_584 : decode cL_law 584 = .ok (.iadd, 1) := by decide +kernel
theorem dL_law_585 : decode cL_law 585 = .ok (.iaload, 1) := by decide +kernel
theorem dL_law_586 : decode cL_law 586 = .ok (.aload_n 3, 1) := by decide +kernel
theorem dL_law_587 : decode cL_law 587 = .ok (.invokestatic 105, 3) := by decide +kernel
theorem dL_law_590 : decode cL_law 590 = .ok (.istore 5, 2) := by decide +kernel
theorem dL_law_592 : decode cL_law 592 = .ok (.aload_n 2, 1) := by decide +kernel
theorem dL_law_593 : decode cL_law 593 = .ok (.aload_n 0, 1) := by decide +kernel
theorem dL_law_594 : decode cL_law 594 = .ok (.iload 4, 2) := by decide +kernel
theorem dL_law_596 : decode cL_law 596 = .ok (.iconst 1, 1) := by decide +kernel
theorem dL_law_597 : decode cL_law 597 = .ok (.iadd, 1) := by decide +kernel
theorem dL_law_598 : decode cL_law 598 = .ok (.iaload, 1) := by decide +kernel
theorem dL_law_599 : decode cL_law 599 = .ok (.aload_n 0, 1) := by decide +kernel
theorem dL_law_600 : decode cL_law 600 = .ok (.iload 4, 2) := by decide +kernel
theorem dL_law_602 : decode cL_law 602 = .ok (.iconst 2, 1) := by decide +kernel
theorem dL_law_603 : decode cL_law 603 = .ok (.iadd, 1) := by decide +kernel
theorem dL_law_604 : decode cL_law 604 = .ok (.iaload, 1) := by decide +kernel
theorem dL_law_605 : decode cL_law 605 = .ok (.invokevirtual 107, 3) := by decide +kernel
theorem dL_law_608 : decode cL_law 608 = .ok (.istore 6, 2) := by decide +kernel
theorem dL_law_610 : decode cL_law 610 = .ok (.aload_n 2, 1) := by decide +kernel
theorem dL_law_611 : decode cL_law 611 = .ok (.invokevirtual 75, 3) := by decide +kernel
theorem dL_law_614 : decode cL_law 614 = .ok (.iload 5, 2) := by decide +kernel
theorem dL_law_616 : decode cL_law 616 = .ok (.if_icmp .eq 5, 3) := by decide +kernel
theorem dL_law_619 : decode cL_law 619 = .ok (.iconst 0, 1) := by decide +kernel
theorem dL_law_620 : decode cL_law 620 = .ok (.ireturn, 1) := by decide +kernel
theorem dL_law_621 : decode cL_law 621 = .ok (.iload 5, 2) := by decide +kernel
theorem dL_law_623 : decode cL_law 623 = .ok (.ifCond .ne 22, 3) := by decide +kernel
theorem dL_law_626 : decode cL_law 626 = .ok (.aload_n 3, 1) := by decide +kernel
theorem dL_law_627 : decode cL_law 627 = .ok (.iconst 0, 1) := by decide +kernel
theorem dL_law_628 : decode cL_law 628 = .ok (.laload, 1) := by decide +kernel
theorem dL_law_629 : decode cL_law 629 = .ok (.iload 6, 2) := by decide +kernel
theorem dL_law_631 : decode cL_law 631 = .ok (.ifCond .eq 7, 3) := by decide +kernel
theorem dL_law_634 : decode cL_law 634 = .ok (.lconst 1, 1) := by decide +kernel
theorem dL_law_635 : decode cL_law 635 = .ok (.goto 4, 3) := by decide +kernel
theorem dL_law_638 : decode cL_law 638 = .ok (.lconst 0, 1) := by decide +kernel
theorem dL_law_639 : decode cL_law 639 = .ok (.lcmp, 1) := by decide +kernel
theorem dL_law_640 : decode cL_law 640 = .ok (.ifCond .eq 5, 3) := by decide +kernel
theorem dL_law_643 : decode cL_law 643 = .ok (.iconst 0, 1) := by decide +kernel
theorem dL_law_644 : decode cL_law 644 = .ok (.ireturn, 1) := by decide +kernel
theorem dL_law_645 : decode cL_law 645 = .ok (.goto 462, 3) := by decide +kernel
theorem dL_law_648 : decode cL_law 648 = .ok (.aload_n 1, 1) := by decide +kernel
theorem dL_law_649 : decode cL_law 649 = .ok (.aload_n 0, 1) := by decide +kernel
theorem dL_law_650 : decode cL_law 650 = .ok (.iload 4, 2) := by decide +kernel
theorem dL_law_652 : decode cL_law 652 = .ok (.iconst 1, 1) := by decide +kernel
theorem dL_law_653 : decode cL_law 653 = .ok (.iadd, 1) := by decide +kernel
theorem dL_law_654 : decode cL_law 654 = .ok (.iaload, 1) := by decide +kernel
theorem dL_law_655 : decode cL_law 655 = .ok (.aload_n 0, 1) := by decide +kernel
theorem dL_law_656 : decode cL_law 656 = .ok (.iload 4, 2) := by decide +kernel
theorem dL_law_658 : decode cL_law 658 = .ok (.iconst 2, 1) := by decide +kernel
theorem dL_law_659 : decode cL_law 659 = .ok (.iadd, 1) := by decide +kernel
theorem dL_law_660 : decode cL_law 660 = .ok (.iaload, 1) := by decide +kernel
theorem dL_law_661 : decode cL_law 661 = .ok (.aload_n 0, 1) := by decide +kernel
theorem dL_law_662 : decode cL_law 662 = .ok (.iload 4, 2) := by decide +kernel
theorem dL_law_664 : decode cL_law 664 = .ok (.iconst 3, 1) := by decide +kernel
theorem dL_law_665 : decode cL_law 665 = .ok (.iadd, 1) := by decide +kernel
theorem dL_law_666 : decode cL_law 666 = .ok (.iaload, 1) := by decide +kernel
theorem dL_law_667 : decode cL_law 667 = .ok (.aload_n 0, 1) := by decide +kernel
theorem dL_law_668 : decode cL_law 668 = .ok (.iload 4, 2) := by decide +kernel
theorem dL_law_670 : decode cL_law 670 = .ok (.iconst 4, 1) := by decide +kernel
theorem dL_law_671 : decode cL_law 671 = .ok (.iadd, 1) := by decide +kernel
theorem dL_law_672 : decode cL_law 672 = .ok (.iaload, 1) := by decide +kernel
theorem dL_law_673 : decode cL_law 673 = .ok (.aload_n 3, 1) := by decide +kernel
theorem dL_law_674 : decode cL_law 674 = .ok (.invokestatic 108, 3) := by decide +kernel
theorem dL_law_677 : decode cL_law 677 = .ok (.istore 5, 2) := by decide +kernel
theorem dL_law_679 : decode cL_law 679 = .ok (.aload_n 2, 1) := by decide +kernel
theorem dL_law_680 : decode cL_law 680 = .ok (.aload_n 0, 1) := by decide +kernel
theorem dL_law_681 : decode cL_law 681 = .ok (.iload 4, 2) := by decide +kernel
theorem dL_law_683 : decode cL_law 683 = .ok (.iconst 1, 1) := by decide +kernel
theorem dL_law_684 : decode cL_law 684 = .ok (.iadd, 1) := by decide +kernel
theorem dL_law_685 : decode cL_law 685 = .ok (.iaload, 1) := by decide +kernel
theorem dL_law_686 : decode cL_law 686 = .ok (.aload_n 0, 1) := by decide +kernel
theorem dL_law_687 : decode cL_law 687 = .ok (.iload 4, 2) := by decide +kernel
theorem dL_law_689 : decode cL_law 689 = .ok (.iconst 2, 1) := by decide +kernel
theorem dL_law_690 : decode cL_law 690 = .ok (.iadd, 1) := by decide +kernel
theorem dL_law_691 : decode cL_law 691 = .ok (.iaload, 1) := by decide +kernel
theorem dL_law_692 : decode cL_law 692 = .ok (.aload_n 0, 1) := by decide +kernel
theorem dL_law_693 : decode cL_law 693 = .ok (.iload 4, 2) := by decide +kernel
theorem dL_law_695 : decode cL_law 695 = .ok (.iconst 3, 1) := by decide +kernel
theorem dL_law_696 : decode cL_law 696 = .ok (.iadd, 1) := by decide +kernel
theorem dL_law_697 : decode cL_law 697 = .ok (.iaload, 1) := by decide +kernel
theorem dL_law_698 : decode cL_law 698 = .ok (.aload_n 0, 1) := by decide +kernel
theorem dL_law_699 : decode cL_law 699 = .ok (.iload 4, 2) := by decide +kernel
theorem dL_law_701 : decode cL_law 701 = .ok (.iconst 4, 1) := by decide +kernel
theorem dL_law_702 : decode cL_law 702 = .ok (.iadd, 1) := by decide +kernel
theorem dL_law_703 : decode cL_law 703 = .ok (.iaload, 1) := by decide +kernel
theorem dL_law_704 : decode cL_law 704 = .ok (.invokevirtual 111, 3) := by decide +kernel
theorem dL_law_707 : decode cL_law 707 = .ok (.istore 6, 2) := by decide +kernel
theorem dL_law_709 : decode cL_law 709 = .ok (.aload_n 2, 1) := by decide +kernel
theorem dL_law_710 : decode cL_law 710 = .ok (.invokevirtual 75, 3) := by decide +kernel
theorem dL_law_713 : decode cL_law 713 = .ok (.iload 5, 2) := by decide +kernel
theorem dL_law_715 : decode cL_law 715 = .ok (.if_icmp .eq 5, 3) := by decide +kernel
theorem dL_law_718 : decode cL_law 718 = .ok (.iconst 0, 1) := by decide +kernel
theorem dL_law_719 : decode cL_law 719 = .ok (.ireturn, 1) := by decide +kernel
theorem dL_law_720 : decode cL_law 720 = .ok (.iload 5, 2) := by decide +kernel
theorem dL_law_722 : decode cL_law 722 = .ok (.ifCond .ne 15, 3) := by decide +kernel
theorem dL_law_725 : decode cL_law 725 = .ok (.aload_n 3, 1) := by decide +kernel
theorem dL_law_726 : decode cL_law 726 = .ok (.iconst 0, 1) := by decide +kernel
theorem dL_law_727 : decode cL_law 727 = .ok (.laload, 1) := by decide +kernel
theorem dL_law_728 : decode cL_law 728 = .ok (.iload 6, 2) := by decide +kernel
theorem dL_law_730 : decode cL_law 730 = .ok (.i2l, 1) := by decide +kernel
theorem dL_law_731 : decode cL_law 731 = .ok (.lcmp, 1) := by decide +kernel
theorem dL_law_732 : decode cL_law 732 = .ok (.ifCond .eq 5, 3) := by decide +kernel
theorem dL_law_735 : decode cL_law 735 = .ok (.iconst 0, 1) := by decide +kernel
theorem dL_law_736 : decode cL_law 736 = .ok (.ireturn, 1) := by decide +kernel
theorem dL_law_737 : decode cL_law 737 = .ok (.goto 370, 3) := by decide +kernel
theorem dL_law_740 : decode cL_law 740 = .ok (.aload_n 1, 1) := by decide +kernel
theorem dL_law_741 : decode cL_law 741 = .ok (.aload_n 3, 1) := by decide +kernel
theorem dL_law_742 : decode cL_law 742 = .ok (.invokestatic 112, 3) := by decide +kernel
theorem dL_law_745 : decode cL_law 745 = .ok (.istore 5, 2) := by decide +kernel
theorem dL_law_747 : decode cL_law 747 = .ok (.aload_n 2, 1) := by decide +kernel
theorem dL_law_748 : decode cL_law 748 = .ok (.invokevirtual 114, 3) := by decide +kernel
theorem dL_law_751 : decode cL_law 751 = .ok (.istore 6, 2) := by decide +kernel
theorem dL_law_753 : decode cL_law 753 = .ok (.aload_n 2, 1) := by decide +kernel
theorem dL_law_754 : decode cL_law 754 = .ok (.invokevirtual 75, 3) := by decide +kernel
theorem dL_law_757 : decode cL_law 757 = .ok (.iload 5, 2) := by decide +kernel
theorem dL_law_759 : decode cL_law 759 = .ok (.if_icmp .eq 5, 3) := by decide +kernel
theorem dL_law_762 : decode cL_law 762 = .ok (.iconst 0, 1) := by decide +kernel
theorem dL_law_763 : decode cL_law 763 = .ok (.ireturn, 1) := by decide +kernel
theorem dL_law_764 : decode cL_law 764 = .ok (.iload 5, 2) := by decide +kernel
theorem dL_law_766 : decode cL_law 766 = .ok (.ifCond .ne 15, 3) := by decide +kernel
theorem dL_law_769 : decode cL_law 769 = .ok (.aload_n 3, 1) := by decide +kernel
theorem dL_law_770 : decode cL_law 770 = .ok (.iconst 0, 1) := by decide +kernel
theorem dL_law_771 : decode cL_law 771 = .ok (.laload, 1) := by decide +kernel
theorem dL_law_772 : decode cL_law 772 = .ok (.iload 6, 2) := by decide +kernel
theorem dL_law_774 : decode cL_law 774 = .ok (.i2l, 1) := by decide +kernel
theorem dL_law_775 : decode cL_law 775 = .ok (.lcmp, 1) := by decide +kernel
theorem dL_law_776 : decode cL_law 776 = .ok (.ifCond .eq 5, 3) := by decide +kernel
theorem dL_law_779 : decode cL_law 779 = .ok (.iconst 0, 1) := by decide +kernel
theorem dL_law_780 : decode cL_law 780 = .ok (.ireturn, 1) := by decide +kernel
theorem dL_law_781 : decode cL_law 781 = .ok (.goto 326, 3) := by decide +kernel
theorem dL_law_784 : decode cL_law 784 = .ok (.aload_n 1, 1) := by decide +kernel
theorem dL_law_785 : decode cL_law 785 = .ok (.aload_n 0, 1) := by decide +kernel
theorem dL_law_786 : decode cL_law 786 = .ok (.iload 4, 2) := by decide +kernel
theorem dL_law_788 : decode cL_law 788 = .ok (.iconst 1, 1) := by decide +kernel
theorem dL_law_789 : decode cL_law 789 = .ok (.iadd, 1) := by decide +kernel
theorem dL_law_790 : decode cL_law 790 = .ok (.iaload, 1) := by decide +kernel
theorem dL_law_791 : decode cL_law 791 = .ok (.aload_n 0, 1) := by decide +kernel
theorem dL_law_792 : decode cL_law 792 = .ok (.iload 4, 2) := by decide +kernel
theorem dL_law_794 : decode cL_law 794 = .ok (.iconst 2, 1) := by decide +kernel
theorem dL_law_795 : decode cL_law 795 = .ok (.iadd, 1) := by decide +kernel
theorem dL_law_796 : decode cL_law 796 = .ok (.iaload, 1) := by decide +kernel
theorem dL_law_797 : decode cL_law 797 = .ok (.aload_n 3, 1) := by decide +kernel
theorem dL_law_798 : decode cL_law 798 = .ok (.invokestatic 115, 3) := by decide +kernel
theorem dL_law_801 : decode cL_law 801 = .ok (.istore 5, 2) := by decide +kernel
theorem dL_law_803 : decode cL_law 803 = .ok (.aload_n 2, 1) := by decide +kernel
theorem dL_law_804 : decode cL_law 804 = .ok (.aload_n 0, 1) := by decide +kernel
theorem dL_law_805 : decode cL_law 805 = .ok (.iload 4, 2) := by decide +kernel
theorem dL_law_807 : decode cL_law 807 = .ok (.iconst 1, 1) := by decide +kernel
theorem dL_law_808 : decode cL_law 808 = .ok (.iadd, 1) := by decide +kernel
theorem dL_law_809 : decode cL_law 809 = .ok (.iaload, 1) := by decide +kernel
theorem dL_law_810 : decode cL_law 810 = .ok (.aload_n 0, 1) := by decide +kernel
theorem dL_law_811 : decode cL_law 811 = .ok (.iload 4, 2) := by decide +kernel
theorem dL_law_813 : decode cL_law 813 = .ok (.iconst 2, 1) := by decide +kernel
theorem dL_law_814 : decode cL_law 814 = .ok (.iadd, 1) := by decide +kernel
theorem dL_law_815 : decode cL_law 815 = .ok (.iaload, 1) := by decide +kernel
theorem dL_law_816 : decode cL_law 816 = .ok (.invokevirtual 117, 3) := by decide +kernel
theorem dL_law_819 : decode cL_law 819 = .ok (.istore 6, 2) := by decide +kernel
theorem dL_law_821 : decode cL_law 821 = .ok (.aload_n 2, 1) := by decide +kernel
theorem dL_law_822 : decode cL_law 822 = .ok (.invokevirtual 75, 3) := by decide +kernel
theorem dL_law_825 : decode cL_law 825 = .ok (.iload 5, 2) := by decide +kernel
theorem dL_law_827 : decode cL_law 827 = .ok (.if_icmp .eq 5, 3) := by decide +kernel
theorem dL_law_830 : decode cL_law 830 = .ok (.iconst 0, 1) := by decide +kernel
theorem dL_law_831 : decode cL_law 831 = .ok (.ireturn, 1) := by decide +kernel
theorem dL_law_832 : decode cL_law 832 = .ok (.iload 5, 2) := by decide +kernel
theorem dL_law_834 : decode cL_law 834 = .ok (.ifCond .ne 15, 3) := by decide +kernel
theorem dL_law_837 : decode cL_law 837 = .ok (.aload_n 3, 1) := by decide +kernel
theorem dL_law_838 : decode cL_law 838 = .ok (.iconst 0, 1) := by decide +kernel
theorem dL_law_839 : decode cL_law 839 = .ok (.laload, 1) := by decide +kernel
theorem dL_law_840 : decode cL_law 840 = .ok (.iload 6, 2) := by decide +kernel
theorem dL_law_842 : decode cL_law 842 = .ok (.i2l, 1) := by decide +kernel
theorem dL_law_843 : decode cL_law 843 = .ok (.lcmp, 1) := by decide +kernel
theorem dL_law_844 : decode cL_law 844 = .ok (.ifCond .eq 5, 3) := by decide +kernel
theorem dL_law_847 : decode cL_law 847 = .ok (.iconst 0, 1) := by decide +kernel
theorem dL_law_848 : decode cL_law 848 = .ok (.ireturn, 1) := by decide +kernel
theorem dL_law_849 : decode cL_law 849 = .ok (.goto 258, 3) := by decide +kernel
theorem dL_law_852 : decode cL_law 852 = .ok (.aload_n 1, 1) := by decide +kernel
theorem dL_law_853 : decode cL_law 853 = .ok (.aload_n 0, 1) := by decide +kernel
theorem dL_law_854 : decode cL_law 854 = .ok (.iload 4, 2) := by decide +kernel
theorem dL_law_856 : decode cL_law 856 = .ok (.iconst 1, 1) := by decide +kernel
theorem dL_law_857 : decode cL_law 857 = .ok (.iadd, 1) := by decide +kernel
theorem dL_law_858 : decode cL_law 858 = .ok (.iaload, 1) := by decide +kernel
theorem dL_law_859 : decode cL_law 859 = .ok (.aload_n 0, 1) := by decide +kernel
theorem dL_law_860 : decode cL_law 860 = .ok (.iload 4, 2) := by decide +kernel
theorem dL_law_862 : decode cL_law 862 = .ok (.iconst 2, 1) := by decide +kernel
theorem dL_law_863 : decode cL_law 863 = .ok (.iadd, 1) := by decide +kernel
theorem dL_law_864 : decode cL_law 864 = .ok (.iaload, 1) := by decide +kernel
theorem dL_law_865 : decode cL_law 865 = .ok (.aload_n 0, 1) := by decide +kernel
theorem dL_law_866 : decode cL_law 866 = .ok (.iload 4, 2) := by decide +kernel
theorem dL_law_868 : decode cL_law 868 = .ok (.iconst 3, 1) := by decide +kernel
theorem dL_law_869 : decode cL_law 869 = .ok (.iadd, 1) := by decide +kernel
theorem dL_law_870 : decode cL_law 870 = .ok (.iaload, 1) := by decide +kernel
theorem dL_law_871 : decode cL_law 871 = .ok (.aload_n 3, 1) := by decide +kernel
theorem dL_law_872 : decode cL_law 872 = .ok (.invokestatic 118, 3) := by decide +kernel
theorem dL_law_875 : decode cL_law 875 = .ok (.istore 5, 2) := by decide +kernel
theorem dL_law_877 : decode cL_law 877 = .ok (.aload_n 2, 1) := by decide +kernel
theorem dL_law_878 : decode cL_law 878 = .ok (.aload_n 0, 1) := by decide +kernel
theorem dL_law_879 : decode cL_law 879 = .ok (.iload 4, 2) := by decide +kernel
theorem dL_law_881 : decode cL_law 881 = .ok (.iconst 1, 1) := by decide +kernel
theorem dL_law_882 : decode cL_law 882 = .ok (.iadd, 1) := by decide +kernel
theorem dL_law_883 : decode cL_law 883 = .ok (.iaload, 1) := by decide +kernel
theorem dL_law_884 : decode cL_law 884 = .ok (.aload_n 0, 1) := by decide +kernel
theorem dL_law_885 : decode cL_law 885 = .ok (.iload 4, 2) := by decide +kernel
theorem dL_law_887 : decode cL_law 887 = .ok (.iconst 2, 1) := by decide +kernel
theorem dL_law_888 : decode cL_law 888 = .ok (.iadd, 1) := by decide +kernel
theorem dL_law_889 : decode cL_law 889 = .ok (.iaload, 1) := by decide +kernel
theorem dL_law_890 : decode cL_law 890 = .ok (.aload_n 0, 1) := by decide +kernel
theorem dL_law_891 : decode cL_law 891 = .ok (.iload 4, 2) := by decide +kernel
theorem dL_law_893 : decode cL_law 893 = .ok (.iconst 3, 1) := by decide +kernel
theorem dL_law_894 : decode cL_law 894 = .ok (.iadd, 1) := by decide +kernel
theorem dL_law_895 : decode cL_law 895 = .ok (.iaload, 1) := by decide +kernel
theorem dL_law_896 : decode cL_law 896 = .ok (.invokevirtual 120, 3) := by decide +kernel
theorem dL_law_899 : decode cL_law 899 = .ok (.istore 6, 2) := by decide +kernel
theorem dL_law_901 : decode cL_law 901 = .ok (.aload_n 2, 1) := by decide +kernel
theorem dL_law_902 : decode cL_law 902 = .ok (.invokevirtual 75, 3) := by decide +kernel
theorem dL_law_905 : decode cL_law 905 = .ok (.iload 5, 2) := by decide +kernel
theorem dL_law_907 : decode cL_law 907 = .ok (.if_icmp .eq 5, 3) := by decide +kernel
theorem dL_law_910 : decode cL_law 910 = .ok (.iconst 0, 1) := by decide +kernel
theorem dL_law_911 : decode cL_law 911 = .ok (.ireturn, 1) := by decide +kernel
theorem dL_law_912 : decode cL_law 912 = .ok (.iload 5, 2) := by decide +kernel
theorem dL_law_914 : decode cL_law 914 = .ok (.ifCond .ne 15, 3) := by decide +kernel
theorem dL_law_917 : decode cL_law 917 = .ok (.aload_n 3, 1) := by decide +kernel
theorem dL_law_918 : decode cL_law 918 = .ok (.iconst 0, 1) := by decide +kernel
theorem dL_law_919 : decode cL_law 919 = .ok (.laload, 1) := by decide +kernel
theorem dL_law_920 : decode cL_law 920 = .ok (.iload 6, 2) := by decide +kernel
theorem dL_law_922 : decode cL_law 922 = .ok (.i2l, 1) := by decide +kernel
theorem dL_law_923 : decode cL_law 923 = .ok (.lcmp, 1) := by decide +kernel
theorem dL_law_924 : decode cL_law 924 = .ok (.ifCond .eq 5, 3) := by decide +kernel
theorem dL_law_927 : decode cL_law 927 = .ok (.iconst 0, 1) := by decide +kernel
theorem dL_law_928 : decode cL_law 928 = .ok (.ireturn, 1) := by decide +kernel
theorem dL_law_929 : decode cL_law 929 = .ok (.goto 178, 3) := by decide +kernel
theorem dL_law_932 : decode cL_law 932 = .ok (.aload_n 1, 1) := by decide +kernel
theorem dL_law_933 : decode cL_law 933 = .ok (.aload_n 0, 1) := by decide +kernel
theorem dL_law_934 : decode cL_law 934 = .ok (.iload 4, 2) := by decide +kernel
theorem dL_law_936 : decode cL_law 936 = .ok (.iconst 1, 1) := by decide +kernel
theorem dL_law_937 : decode cL_law 937 = .ok (.iadd, 1) := by decide +kernel
theorem dL_law_938 : decode cL_law 938 = .ok (.iaload, 1) := by decide +kernel
theorem dL_law_939 : decode cL_law 939 = .ok (.aload_n 3, 1) := by decide +kernel
theorem dL_law_940 : decode cL_law 940 = .ok (.invokestatic 121, 3) := by decide +kernel
theorem dL_law_943 : decode cL_law 943 = .ok (.istore 5, 2) := by decide +kernel
theorem dL_law_945 : decode cL_law 945 = .ok (.aload_n 2, 1) := by decide +kernel
theorem dL_law_946 : decode cL_law 946 = .ok (.aload_n 0, 1) := by decide +kernel
theorem dL_law_947 : decode cL_law 947 = .ok (.iload 4, 2) := by decide +kernel
theorem dL_law_949 : decode cL_law 949 = .ok (.iconst 1, 1) := by decide +kernel
theorem dL_law_950 : decode cL_law 950 = .ok (.iadd, 1) := by decide +kernel
theorem dL_law_951 : decode cL_law 951 = .ok (.iaload, 1) := by decide +kernel
theorem dL_law_952 : decode cL_law 952 = .ok (.invokevirtual 123, 3) := by decide +kernel
theorem dL_law_955 : decode cL_law 955 = .ok (.istore 6, 2) := by decide +kernel
theorem dL_law_957 : decode cL_law 957 = .ok (.aload_n 2, 1) := by decide +kernel
theorem dL_law_958 : decode cL_law 958 = .ok (.invokevirtual 75, 3) := by decide +kernel
theorem dL_law_961 : decode cL_law 961 = .ok (.iload 5, 2) := by decide +kernel
theorem dL_law_963 : decode cL_law 963 = .ok (.if_icmp .eq 5, 3) := by decide +kernel
theorem dL_law_966 : decode cL_law 966 = .ok (.iconst 0, 1) := by decide +kernel
theorem dL_law_967 : decode cL_law 967 = .ok (.ireturn, 1) := by decide +kernel
theorem dL_law_968 : decode cL_law 968 = .ok (.iload 5, 2) := by decide +kernel
theorem dL_law_970 : decode cL_law 970 = .ok (.ifCond .ne 15, 3) := by decide +kernel
theorem dL_law_973 : decode cL_law 973 = .ok (.aload_n 3, 1) := by decide +kernel
theorem dL_law_974 : decode cL_law 974 = .ok (.iconst 0, 1) := by decide +kernel
theorem dL_law_975 : decode cL_law 975 = .ok (.laload, 1) := by decide +kernel
theorem dL_law_976 : decode cL_law 976 = .ok (.iload 6, 2) := by decide +kernel
theorem dL_law_978 : decode cL_law 978 = .ok (.i2l, 1) := by decide +kernel
theorem dL_law_979 : decode cL_law 979 = .ok (.lcmp, 1) := by decide +kernel
theorem dL_law_980 : decode cL_law 980 = .ok (.ifCond .eq 5, 3) := by decide +kernel
theorem dL_law_983 : decode cL_law 983 = .ok (.iconst 0, 1) := by decide +kernel
theorem dL_law_984 : decode cL_law 984 = .ok (.ireturn, 1) := by decide +kernel
theorem dL_law_985 : decode cL_law 985 = .ok (.goto 122, 3) := by decide +kernel
theorem dL_law_988 : decode cL_law 988 = .ok (.aload_n 1, 1) := by decide +kernel
theorem dL_law_989 : decode cL_law 989 = .ok (.aload_n 0, 1) := by decide +kernel
theorem dL_law_990 : decode cL_law 990 = .ok (.iload 4, 2) := by decide +kernel
theorem dL_law_992 : decode cL_law 992 = .ok (.iconst 1, 1) := by decide +kernel
theorem dL_law_993 : decode cL_law 993 = .ok (.iadd, 1) := by decide +kernel
theorem dL_law_994 : decode cL_law 994 = .ok (.iaload, 1) := by decide +kernel
theorem dL_law_995 : decode cL_law 995 = .ok (.aload_n 3, 1) := by decide +kernel
theorem dL_law_996 : decode cL_law 996 = .ok (.invokestatic 124, 3) := by decide +kernel
theorem dL_law_999 : decode cL_law 999 = .ok (.istore 5, 2) := by decide +kernel
theorem dL_law_1001 : decode cL_law 1001 = .ok (.aload_n 2, 1) := by decide +kernel
theorem dL_law_1002 : decode cL_law 1002 = .ok (.aload_n 0, 1) := by decide +kernel
theorem dL_law_1003 : decode cL_law 1003 = .ok (.iload 4, 2) := by decide +kernel
theorem dL_law_1005 : decode cL_law 1005 = .ok (.iconst 1, 1) := by decide +kernel
theorem dL_law_1006 : decode cL_law 1006 = .ok (.iadd, 1) := by decide +kernel
theorem dL_law_1007 : decode cL_law 1007 = .ok (.iaload, 1) := by decide +kernel
theorem dL_law_1008 : decode cL_law 1008 = .ok (.invokevirtual 126, 3) := by decide +kernel
theorem dL_law_1011 : decode cL_law 1011 = .ok (.istore 6, 2) := by decide +kernel
theorem dL_law_1013 : decode cL_law 1013 = .ok (.aload_n 2, 1) := by decide +kernel
theorem dL_law_1014 : decode cL_law 1014 = .ok (.invokevirtual 75, 3) := by decide +kernel
theorem dL_law_1017 : decode cL_law 1017 = .ok (.iload 5, 2) := by decide +kernel
theorem dL_law_1019 : decode cL_law 1019 = .ok (.if_icmp .eq 5, 3) := by decide +kernel
theorem dL_law_1022 : decode cL_law 1022 = .ok (.iconst 0, 1) := by decide +kernel
theorem dL_law_1023 : decode cL_law 1023 = .ok (.ireturn, 1) := by decide +kernel
theorem dL_law_1024 : decode cL_law 1024 = .ok (.iload 5, 2) := by decide +kernel
theorem dL_law_1026 : decode cL_law 1026 = .ok (.ifCond .ne 15, 3) := by decide +kernel
theorem dL_law_1029 : decode cL_law 1029 = .ok (.aload_n 3, 1) := by decide +kernel
theorem dL_law_1030 : decode cL_law 1030 = .ok (.iconst 0, 1) := by decide +kernel
theorem dL_law_1031 : decode cL_law 1031 = .ok (.laload, 1) := by decide +kernel
theorem dL_law_1032 : decode cL_law 1032 = .ok (.iload 6, 2) := by decide +kernel
theorem dL_law_1034 : decode cL_law 1034 = .ok (.i2l, 1) := by decide +kernel
theorem dL_law_1035 : decode cL_law 1035 = .ok (.lcmp, 1) := by decide +kernel
theorem dL_law_1036 : decode cL_law 1036 = .ok (.ifCond .eq 5, 3) := by decide +kernel
theorem dL_law_1039 : decode cL_law 1039 = .ok (.iconst 0, 1) := by decide +kernel
theorem dL_law_1040 : decode cL_law 1040 = .ok (.ireturn, 1) := by decide +kernel
theorem dL_law_1041 : decode cL_law 1041 = .ok (.goto 66, 3) := by decide +kernel
theorem dL_law_1044 : decode cL_law 1044 = .ok (.aload_n 1, 1) := by decide +kernel
theorem dL_law_1045 : decode cL_law 1045 = .ok (.aload_n 0, 1) := by decide +kernel
theorem dL_law_1046 : decode cL_law 1046 = .ok (.iload 4, 2) := by decide +kernel
theorem dL_law_1048 : decode cL_law 1048 = .ok (.iconst 1, 1) := by decide +kernel
theorem dL_law_1049 : decode cL_law 1049 = .ok (.iadd, 1) := by decide +kernel
theorem dL_law_1050 : decode cL_law 1050 = .ok (.iaload, 1) := by decide +kernel
theorem dL_law_1051 : decode cL_law 1051 = .ok (.aload_n 3, 1) := by decide +kernel
theorem dL_law_1052 : decode cL_law 1052 = .ok (.invokestatic 127, 3) := by decide +kernel
theorem dL_law_1055 : decode cL_law 1055 = .ok (.istore 5, 2) := by decide +kernel
theorem dL_law_1057 : decode cL_law 1057 = .ok (.aload_n 2, 1) := by decide +kernel
theorem dL_law_1058 : decode cL_law 1058 = .ok (.aload_n 0, 1) := by decide +kernel
theorem dL_law_1059 : decode cL_law 1059 = .ok (.iload 4, 2) := by decide +kernel
theorem dL_law_1061 : decode cL_law 1061 = .ok (.iconst 1, 1) := by decide +kernel
theorem dL_law_1062 : decode cL_law 1062 = .ok (.iadd, 1) := by decide +kernel
theorem dL_law_1063 : decode cL_law 1063 = .ok (.iaload, 1) := by decide +kernel
theorem dL_law_1064 : decode cL_law 1064 = .ok (.invokevirtual 129, 3) := by decide +kernel
theorem dL_law_1067 : decode cL_law 1067 = .ok (.istore 6, 2) := by decide +kernel
theorem dL_law_1069 : decode cL_law 1069 = .ok (.aload_n 2, 1) := by decide +kernel
theorem dL_law_1070 : decode cL_law 1070 = .ok (.invokevirtual 75, 3) := by decide +kernel
theorem dL_law_1073 : decode cL_law 1073 = .ok (.iload 5, 2) := by decide +kernel
theorem dL_law_1075 : decode cL_law 1075 = .ok (.if_icmp .eq 5, 3) := by decide +kernel
theorem dL_law_1078 : decode cL_law 1078 = .ok (.iconst 0, 1) := by decide +kernel
theorem dL_law_1079 : decode cL_law 1079 = .ok (.ireturn, 1) := by decide +kernel
theorem dL_law_1080 : decode cL_law 1080 = .ok (.iload 5, 2) := by decide +kernel
theorem dL_law_1082 : decode cL_law 1082 = .ok (.ifCond .ne 22, 3) := by decide +kernel
theorem dL_law_1085 : decode cL_law 1085 = .ok (.aload_n 3, 1) := by decide +kernel
theorem dL_law_1086 : decode cL_law 1086 = .ok (.iconst 0, 1) := by decide +kernel
theorem dL_law_1087 : decode cL_law 1087 = .ok (.laload, 1) := by decide +kernel
theorem dL_law_1088 : decode cL_law 1088 = .ok (.iload 6, 2) := by decide +kernel
theorem dL_law_1090 : decode cL_law 1090 = .ok (.ifCond .eq 7, 3) := by decide +kernel
theorem dL_law_1093 : decode cL_law 1093 = .ok (.lconst 1, 1) := by decide +kernel
theorem dL_law_1094 : decode cL_law 1094 = .ok (.goto 4, 3) := by decide +kernel
theorem dL_law_1097 : decode cL_law 1097 = .ok (.lconst 0, 1) := by decide +kernel
theorem dL_law_1098 : decode cL_law 1098 = .ok (.lcmp, 1) := by decide +kernel
theorem dL_law_1099 : decode cL_law 1099 = .ok (.ifCond .eq 5, 3) := by decide +kernel
theorem dL_law_1102 : decode cL_law 1102 = .ok (.iconst 0, 1) := by decide +kernel
theorem dL_law_1103 : decode cL_law 1103 = .ok (.ireturn, 1) := by decide +kernel
theorem dL_law_1104 : decode cL_law 1104 = .ok (.goto 3, 3) := by decide +kernel
theorem dL_law_1107 : decode cL_law 1107 = .ok (.iinc 4 6, 3) := by decide +kernel
theorem dL_law_1110 : decode cL_law 1110 = .ok (.goto (-1087), 3) := by decide +kernel
theorem dL_law_1113 : decode cL_law 1113 = .ok (.iconst 1, 1) := by decide +kernel
theorem dL_law_1114 : decode cL_law 1114 = .ok (.ireturn, 1) := by decide +kernel
abbrev mL_law : MI := (x, code, 7, (some FieldType.boolean), [])
theorem k_scr {D : DE} {s : State} (hE : k_Env D s) : va_T .int (dO D 7) (dL D) (fun j => .int (dX D j)) (k_A D) s (dH D) := by
  obtain ⟨scr, h1, h2, h3, h4, h5⟩ := hE.2.2.2.2.2.2.2.2.2.2.2.2.2.2.2.1
  exact ⟨scr, h1, h2, h3, Nat.le_of_eq h4.symm, by rw [h4], h5, Nat.not_le.mpr hE.2.2.2.2.2.2.2.2.2.2.2.2.2.2.2.2.1⟩
theorem tsw_0_15 {x : Int32} (h : ¬ (x.toInt < 0 ∨ 15 < x.toInt)) : x = 0 ∨ x = 1 ∨ x = 2 ∨ x = 3 ∨ x = 4 ∨ x = 5 ∨ x = 6 ∨ x = 7 ∨ x = 8 ∨ x = 9 ∨ x = 10 ∨ x = 11 ∨ x = 12 ∨ x = 13 ∨ x = 14 ∨ x = 15 := by
  have h1 : ∀ v : Int32, x.toInt = v.toInt → x = v := fun v e => Int32.toInt_inj.mp e
  have h2 : x.toInt = 0 ∨ x.toInt = 1 ∨ x.toInt = 2 ∨ x.toInt = 3 ∨ x.toInt = 4 ∨ x.toInt = 5 ∨ x.toInt = 6 ∨ x.toInt = 7 ∨ x.toInt = 8 ∨ x.toInt = 9 ∨ x.toInt = 10 ∨ x.toInt = 11 ∨ x.toInt = 12 ∨ x.toInt = 13 ∨ x.toInt = 14 ∨ x.toInt = 15 := by omega
  rcases h2 with h2 | h2 | h2 | h2 | h2 | h2 | h2 | h2 | h2 | h2 | h2 | h2 | h2 | h2 | h2 | h2
  · exact Or.inl (h1 0 h2)
  · exact Or.inr (Or.inl (h1 1 h2))
  · exact Or.inr (Or.inr (Or.inl (h1 2 h2)))
  · exact Or.inr (Or.inr (Or.inr (Or.inl (h1 3 h2))))
  · exact Or.inr (Or.inr (Or.inr (Or.inr (Or.inl (h1 4 h2)))))
  · exact Or.inr (Or.inr (Or.inr (Or.inr (Or.inr (Or.inl (h1 5 h2))))))
  · exact Or.inr (Or.inr (Or.inr (Or.inr (Or.inr (Or.inr (Or.inl (h1 6 h2)))))))
  · exact Or.inr (Or.inr (Or.inr (Or.inr (Or.inr (Or.inr (Or.inr (Or.inl (h1 7 h2))))))))
  · exact Or.inr (Or.inr (Or.inr (Or.inr (Or.inr (Or.inr (Or.inr (Or.inr (Or.inl (h1 8 h2)))))))))
  · exact Or.inr (Or.inr (Or.inr (Or.inr (Or.inr (Or.inr (Or.inr (Or.inr (Or.inr (Or.inl (h1 9 h2))))))))))
  · exact Or.inr (Or.inr (Or.inr (Or.inr (Or.inr (Or.inr (Or.inr (Or.inr (Or.inr (Or.inr (Or.inl (h1 10 h2)))))))))))
  · exact Or.inr (Or.inr (Or.inr (Or.inr (Or.inr (Or.inr (Or.inr (Or.inr (Or.inr (Or.inr (Or.inr (Or.inl (h1 11 h2))))))))))))
  · exact Or.inr (Or.inr (Or.inr (Or.inr (Or.inr (Or.inr (Or.inr (Or.inr (Or.inr (Or.inr (Or.inr (Or.inr (Or.inl (h1 12 h2)))))))))))))
  · exact Or.inr (Or.inr (Or.inr (Or.inr (Or.inr (Or.inr (Or.inr (Or.inr (Or.inr (Or.inr (Or.inr (Or.inr (Or.inr (Or.inl (h1 13 h2))))))))))))))
  · exact Or.inr (Or.inr (Or.inr (Or.inr (Or.inr (Or.inr (Or.inr (Or.inr (Or.inr (Or.inr (Or.inr (Or.inr (Or.inr (Or.inr (Or.inl (h1 14 h2)))))))))))))))
  · exact Or.inr (Or.inr (Or.inr (Or.inr (Or.inr (Or.inr (Or.inr (Or.inr (Or.inr (Or.inr (Or.inr (Or.inr (Or.inr (Or.inr (Or.inr (h1 15 h2)))))))))))))))
abbrev JL_law_1107 (D : DE) (f : Nat) (Q : Int32 → Frm → HI → HL → Prop) (T : Nat → Frm → HI → HL → Prop) (F : Frm) (h : HI) (g : HL) (x4 : Int32) : Prop := ∀ y1 : Int32, y1 = x4 + 6 → V D mL_law (f + 1) (gi Q T) 23 [(0, .ref (dO D 7)), (1, .ref (ad D 0)), (2, .ref (ad D 115)), (3, .ref (ad D 159)), (4, .int y1)] [] (F, h, g)
theorem bL_law_1107 {D : DE} {f : Nat} {Q : Int32 → Frm → HI → HL → Prop} {T : Nat → Frm → HI → HL → Prop} {F : Frm} {h : HI} {g : HL} (hF : k_Fix F) (x4 : Int32) (H : JL_law_1107 D f Q T F h g x4) : V D mL_law (f + 1) (gi Q T) 1107 [(0, .ref (dO D 7)), (1, .ref (ad D 0)), (2, .ref (ad D 115)), (3, .ref (ad D 159)), (4, .int x4)] [] (F, h, g) := by
  obtain ⟨y1, e2⟩ : ∃ y : Int32, y = x4 + 6 := ⟨_, rfl⟩
  have H := H y1 e2
  refine V_iinc (j := 4) (v := y1) (l1 := [(4, .int y1), (0, .ref (dO D 7)), (1, .ref (ad D 0)), (2, .ref (ad D 115)), (3, .ref (ad D 159))]) dL_law_1107 rfl (by rw [e2]; rfl) (by decide) rfl ?_
  refine V_goto (tgt := 23) dL_law_1110 (by decide) ?_
  refine V.sub [1, 2, 3, 4, 0] rfl ?_
  exact H
abbrev JL_law_1104 (D : DE) (f : Nat) (Q : Int32 → Frm → HI → HL → Prop) (T : Nat → Frm → HI → HL → Prop) (F : Frm) (h : HI) (g : HL) (x4 : Int32) : Prop := JL_law_1107 D f Q T F h g x4
theorem bL_law_1104 {D : DE} {f : Nat} {Q : Int32 → Frm → HI → HL → Prop} {T : Nat → Frm → HI → HL → Prop} {F : Frm} {h : HI} {g : HL} (hF : k_Fix F) (x4 : Int32) (H : JL_law_1104 D f Q T F h g x4) : V D mL_law (f + 1) (gi Q T) 1104 [(0, .ref (dO D 7)), (1, .ref (ad D 0)), (2, .ref (ad D 115)), (3, .ref (ad D 159)), (4, .int x4)] [] (F, h, g) := by
  refine V_goto (tgt := 1107) dL_law_1104 (by decide) ?_
  exact bL_law_1107 hF x4 H
abbrev JL_law_1098 (D : DE) (f : Nat) (Q : Int32 → Frm → HI → HL → Prop) (T : Nat → Frm → HI → HL → Prop) (F : Frm) (h : HI) (g : HL) (x4 : Int32) (s0 : Int64) (s1 : Int64) : Prop := (((lg_cmp s0 s1) = 0 → JL_law_1104 D f Q T F h g x4) ∧ (¬ (lg_cmp s0 s1) = 0 → Q 0 F h g))
theorem bL_law_1098 {D : DE} {f : Nat} {Q : Int32 → Frm → HI → HL → Prop} {T : Nat → Frm → HI → HL → Prop} {F : Frm} {h : HI} {g : HL} (hF : k_Fix F) (x4 : Int32) (s0 : Int64) (s1 : Int64) (H : JL_law_1098 D f Q T F h g x4 s0 s1) : V D mL_law (f + 1) (gi Q T) 1098 [(0, .ref (dO D 7)), (1, .ref (ad D 0)), (2, .ref (ad D 115)), (3, .ref (ad D 159)), (4, .int x4)] [.long s1, .long s0] (F, h, g) := by
  refine V_lcmp dL_law_1098 ?_
  refine V_if_eq (tgt := 1104) dL_law_1099 (by decide) (fun c1 => ?_) (fun c1 => ?_)
  · have H := H.1 c1
    exact bL_law_1104 hF x4 H
  · have H := H.2 c1
    refine V_iconst (v := 0) dL_law_1102 (by decide) ?_
    exact G_zret hF rfl isB0 dL_law_1103 H
abbrev JL_law_1044 (D : DE) (f : Nat) (Q : Int32 → Frm → HI → HL → Prop) (T : Nat → Frm → HI → HL → Prop) (F : Frm) (h : HI) (g : HL) (x4 : Int32) : Prop := vp_in (x4 + 1) (dL D) ∧ Gi D f mX0_needed [.ref (ad D 0), .int (dX D (ix (x4 + 1))), .ref (ad D 159)] F h g (fun y2 F5 h3 g4 => vp_in (x4 + 1) (dL D) ∧ Si D f mX8_needed [.ref (ad D 115), .int (dX D (ix (x4 + 1)))] F5 h3 g4 (fun y9 h10 g11 => Si D f mX8_thrown [.ref (ad D 115)] F5 h10 g11 (fun y12 h13 g14 => ((y12 = y2 → ((¬ y2 = 0 → JL_law_1104 D f Q T F5 h13 g14 x4) ∧ (y2 = 0 → ((y9 = 0 → JL_law_1098 D f Q T F5 h13 g14 x4 (g14 159 (ix 0)) 0) ∧ (¬ y9 = 0 → JL_law_1098 D f Q T F5 h13 g14 x4 (g14 159 (ix 0)) 1))))) ∧ (¬ y12 = y2 → Q 0 F5 h13 g14))))) T
theorem bL_law_1044 {D : DE} {f : Nat} {Q : Int32 → Frm → HI → HL → Prop} {T : Nat → Frm → HI → HL → Prop} {F : Frm} {h : HI} {g : HL} (hF : k_Fix F) (x4 : Int32) (H : JL_law_1044 D f Q T F h g x4) : V D mL_law (f + 1) (gi Q T) 1044 [(0, .ref (dO D 7)), (1, .ref (ad D 0)), (2, .ref (ad D 115)), (3, .ref (ad D 159)), (4, .int x4)] [] (F, h, g) := by
  refine V_aload_n dL_law_1044 rfl 1 rfl ?_
  refine V_aload_n dL_law_1045 rfl 0 rfl ?_
  refine V_iload dL_law_1046 4 rfl ?_
  refine V_iconst (v := 1) dL_law_1048 (by decide) ?_
  refine V_iadd dL_law_1049 ?_
  obtain ⟨i1, H⟩ := H
  refine V_ti (v := .int (dX D (ix (x4 + 1)))) (fun _ hE => k_scr hE) i1 rfl dL_law_1050 ?_
  refine V_aload_n dL_law_1051 rfl 3 rfl ?_
  refine G_calli (av := [.ref (ad D 0), .int (dX D (ix (x4 + 1))), .ref (ad D 159)]) (rest := []) H mqX0_needed q80 (by decide) (Nat.le_of_ble_eq_true rfl) (k_resS (av := [.ref (ad D 0), .int (dX D (ix (x4 + 1))), .ref (ad D 159)]) (rest := []) (M1 := mX0_needed) rfl q1445 q1446 q80 mqX0_needed (fun _ _ h => mW_namedW h) mhX0_needed mnX0_needed dL_law_1052) (fun y2 F5 h3 g4 hF6 H => ?_) (fun a e F1 h1 g1 hF1 ha ht => GT_i hF1 rfl ha ht)
  refine V_istore (l1 := [(5, .int y2), (0, .ref (dO D 7)), (1, .ref (ad D 0)), (2, .ref (ad D 115)), (3, .ref (ad D 159)), (4, .int x4)]) dL_law_1055 (by decide) rfl ?_
  refine V_aload_n dL_law_1057 rfl 3 rfl ?_
  refine V_aload_n dL_law_1058 rfl 1 rfl ?_
  refine V_iload dL_law_1059 5 rfl ?_
  refine V_iconst (v := 1) dL_law_1061 (by decide) ?_
  refine V_iadd dL_law_1062 ?_
  obtain ⟨i8, H⟩ := H
  refine V_ti (v := .int (dX D (ix (x4 + 1)))) (fun _ hE => k_scr hE) i8 rfl dL_law_1063 ?_
  refine H_calli (av := [.ref (ad D 115), .int (dX D (ix (x4 + 1)))]) (rest := []) H mqX8_needed q88 (by decide) (Nat.le_of_ble_eq_true rfl) (k_resV (ci := 7) (av := [.int (dX D (ix (x4 + 1)))]) (rest := []) (fs_115 hF6) (by decide) rfl rfl q2019 q2020 q2021 q2022 mhX8_needed mnX8_needed dL_law_1064) (fun y9 h10 g11 H => ?_)
  refine V_istore (l1 := [(6, .int y9), (5, .int y2), (0, .ref (dO D 7)), (1, .ref (ad D 0)), (2, .ref (ad D 115)), (3, .ref (ad D 159)), (4, .int x4)]) dL_law_1067 (by decide) rfl ?_
  refine V_aload_n dL_law_1069 rfl 4 rfl ?_
  refine H_calli (av := [.ref (ad D 115)]) (rest := []) H mqX8_thrown q88 (by decide) (Nat.le_of_ble_eq_true rfl) (k_resV (ci := 7) (av := []) (rest := []) (fs_115 hF6) (by decide) rfl rfl q1709 q1710 q1711 q1712 mhX8_thrown mnX8_thrown dL_law_1070) (fun y12 h13 g14 H => ?_)
  refine V_iload dL_law_1073 1 rfl ?_
  refine V_icmp_eq (tgt := 1080) dL_law_1075 (by decide) (fun c15 => ?_) (fun c15 => ?_)
  · have H := H.1 c15
    refine V_iload dL_law_1080 1 rfl ?_
    refine V_if_ne (tgt := 1104) dL_law_1082 (by decide) (fun c16 => ?_) (fun c16 => ?_)
    · have H := H.1 c16
      refine V.sub [2, 3, 4, 5, 6] rfl ?_
      exact bL_law_1104 hF6 x4 H
    · have H := H.2 c16
      refine V_aload_n dL_law_1085 rfl 5 rfl ?_
      refine V_iconst (v := 0) dL_law_1086 (by decide) ?_
      refine H_lald (fs_159 hF6) (by unfold vp_in; decide) dL_law_1087 ?_
      refine V_iload dL_law_1088 0 rfl ?_
      refine V_if_eq (tgt := 1097) dL_law_1090 (by decide) (fun c17 => ?_) (fun c17 => ?_)
      · have H := H.1 c17
        refine V_lconst (v := 0) dL_law_1097 (by decide) ?_
        refine V.sub [2, 3, 4, 5, 6] rfl ?_
        exact bL_law_1098 hF6 x4 (g14 159 (ix 0)) 0 H
      · have H := H.2 c17
        refine V_lconst (v := 1) dL_law_1093 (by decide) ?_
        refine V_goto (tgt := 1098) dL_law_1094 (by decide) ?_
        refine V.sub [2, 3, 4, 5, 6] rfl ?_
        exact bL_law_1098 hF6 x4 (g14 159 (ix 0)) 1 H
  · have H := H.2 c15
    refine V_iconst (v := 0) dL_law_1078 (by decide) ?_
    exact G_zret hF6 rfl isB0 dL_law_1079 H
abbrev JL_law_1041 (D : DE) (f : Nat) (Q : Int32 → Frm → HI → HL → Prop) (T : Nat → Frm → HI → HL → Prop) (F : Frm) (h : HI) (g : HL) (x4 : Int32) : Prop := JL_law_1107 D f Q T F h g x4
theorem bL_law_1041 {D : DE} {f : Nat} {Q : Int32 → Frm → HI → HL → Prop} {T : Nat → Frm → HI → HL → Prop} {F : Frm} {h : HI} {g : HL} (hF : k_Fix F) (x4 : Int32) (H : JL_law_1041 D f Q T F h g x4) : V D mL_law (f + 1) (gi Q T) 1041 [(0, .ref (dO D 7)), (1, .ref (ad D 0)), (2, .ref (ad D 115)), (3, .ref (ad D 159)), (4, .int x4)] [] (F, h, g) := by
  refine V_goto (tgt := 1107) dL_law_1041 (by decide) ?_
  exact bL_law_1107 hF x4 H
abbrev JL_law_988 (D : DE) (f : Nat) (Q : Int32 → Frm → HI → HL → Prop) (T : Nat → Frm → HI → HL → Prop) (F : Frm) (h : HI) (g : HL) (x4 : Int32) : Prop := vp_in (x4 + 1) (dL D) ∧ Gi D f mX0_result [.ref (ad D 0), .int (dX D (ix (x4 + 1))), .ref (ad D 159)] F h g (fun y2 F5 h3 g4 => vp_in (x4 + 1) (dL D) ∧ Si D f mX8_result [.ref (ad D 115), .int (dX D (ix (x4 + 1)))] F5 h3 g4 (fun y9 h10 g11 => Si D f mX8_thrown [.ref (ad D 115)] F5 h10 g11 (fun y12 h13 g14 => ((y12 = y2 → ((¬ y2 = 0 → JL_law_1041 D f Q T F5 h13 g14 x4) ∧ (y2 = 0 → (((lg_cmp (g14 159 (ix 0)) y9.toInt64) = 0 → JL_law_1041 D f Q T F5 h13 g14 x4) ∧ (¬ (lg_cmp (g14 159 (ix 0)) y9.toInt64) = 0 → Q 0 F5 h13 g14))))) ∧ (¬ y12 = y2 → Q 0 F5 h13 g14))))) T
theorem bL_law_988 {D : DE} {f : Nat} {Q : Int32 → Frm → HI → HL → Prop} {T : Nat → Frm → HI → HL → Prop} {F : Frm} {h : HI} {g : HL} (hF : k_Fix F) (x4 : Int32) (H : JL_law_988 D f Q T F h g x4) : V D mL_law (f + 1) (gi Q T) 988 [(0, .ref (dO D 7)), (1, .ref (ad D 0)), (2, .ref (ad D 115)), (3, .ref (ad D 159)), (4, .int x4)] [] (F, h, g) := by
  refine V_aload_n dL_law_988 rfl 1 rfl ?_
  refine V_aload_n dL_law_989 rfl 0 rfl ?_
  refine V_iload dL_law_990 4 rfl ?_
  refine V_iconst (v := 1) dL_law_992 (by decide) ?_
  refine V_iadd dL_law_993 ?_
  obtain ⟨i1, H⟩ := H
  refine V_ti (v := .int (dX D (ix (x4 + 1)))) (fun _ hE => k_scr hE) i1 rfl dL_law_994 ?_
  refine V_aload_n dL_law_995 rfl 3 rfl ?_
  refine G_calli (av := [.ref (ad D 0), .int (dX D (ix (x4 + 1))), .ref (ad D 159)]) (rest := []) H mqX0_result q80 (by decide) (Nat.le_of_ble_eq_true rfl) (k_resS (av := [.ref (ad D 0), .int (dX D (ix (x4 + 1))), .ref (ad D 159)]) (rest := []) (M1 := mX0_result) rfl q1434 q1435 q80 mqX0_result (fun _ _ h => mW_namedW h) mhX0_result mnX0_result dL_law_996) (fun y2 F5 h3 g4 hF6 H => ?_) (fun a e F1 h1 g1 hF1 ha ht => GT_i hF1 rfl ha ht)
  refine V_istore (l1 := [(5, .int y2), (0, .ref (dO D 7)), (1, .ref (ad D 0)), (2, .ref (ad D 115)), (3, .ref (ad D 159)), (4, .int x4)]) dL_law_999 (by decide) rfl ?_
  refine V_aload_n dL_law_1001 rfl 3 rfl ?_
  refine V_aload_n dL_law_1002 rfl 1 rfl ?_
  refine V_iload dL_law_1003 5 rfl ?_
  refine V_iconst (v := 1) dL_law_1005 (by decide) ?_
  refine V_iadd dL_law_1006 ?_
  obtain ⟨i8, H⟩ := H
  refine V_ti (v := .int (dX D (ix (x4 + 1)))) (fun _ hE => k_scr hE) i8 rfl dL_law_1007 ?_
  refine H_calli (av := [.ref (ad D 115), .int (dX D (ix (x4 + 1)))]) (rest := []) H mqX8_result q88 (by decide) (Nat.le_of_ble_eq_true rfl) (k_resV (ci := 7) (av := [.int (dX D (ix (x4 + 1)))]) (rest := []) (fs_115 hF6) (by decide) rfl rfl q2011 q2012 q2013 q2014 mhX8_result mnX8_result dL_law_1008) (fun y9 h10 g11 H => ?_)
  refine V_istore (l1 := [(6, .int y9), (5, .int y2), (0, .ref (dO D 7)), (1, .ref (ad D 0)), (2, .ref (ad D 115)), (3, .ref (ad D 159)), (4, .int x4)]) dL_law_1011 (by decide) rfl ?_
  refine V_aload_n dL_law_1013 rfl 4 rfl ?_
  refine H_calli (av := [.ref (ad D 115)]) (rest := []) H mqX8_thrown q88 (by decide) (Nat.le_of_ble_eq_true rfl) (k_resV (ci := 7) (av := []) (rest := []) (fs_115 hF6) (by decide) rfl rfl q1709 q1710 q1711 q1712 mhX8_thrown mnX8_thrown dL_law_1014) (fun y12 h13 g14 H => ?_)
  refine V_iload dL_law_1017 1 rfl ?_
  refine V_icmp_eq (tgt := 1024) dL_law_1019 (by decide) (fun c15 => ?_) (fun c15 => ?_)
  · have H := H.1 c15
    refine V_iload dL_law_1024 1 rfl ?_
    refine V_if_ne (tgt := 1041) dL_law_1026 (by decide) (fun c16 => ?_) (fun c16 => ?_)
    · have H := H.1 c16
      refine V.sub [2, 3, 4, 5, 6] rfl ?_
      exact bL_law_1041 hF6 x4 H
    · have H := H.2 c16
      refine V_aload_n dL_law_1029 rfl 5 rfl ?_
      refine V_iconst (v := 0) dL_law_1030 (by decide) ?_
      refine H_lald (fs_159 hF6) (by unfold vp_in; decide) dL_law_1031 ?_
      refine V_iload dL_law_1032 0 rfl ?_
      refine V_i2l dL_law_1034 ?_
      refine V_lcmp dL_law_1035 ?_
      refine V_if_eq (tgt := 1041) dL_law_1036 (by decide) (fun c17 => ?_) (fun c17 => ?_)
      · have H := H.1 c17
        refine V.sub [2, 3, 4, 5, 6] rfl ?_
        exact bL_law_1041 hF6 x4 H
      · have H := H.2 c17
        refine V_iconst (v := 0) dL_law_1039 (by decide) ?_
        exact G_zret hF6 rfl isB0 dL_law_1040 H
  · have H := H.2 c15
    refine V_iconst (v := 0) dL_law_1022 (by decide) ?_
    exact G_zret hF6 rfl isB0 dL_law_1023 H
abbrev JL_law_985 (D : DE) (f : Nat) (Q : Int32 → Frm → HI → HL → Prop) (T : Nat → Frm → HI → HL → Prop) (F : Frm) (h : HI) (g : HL) (x4 : Int32) : Prop := JL_law_1107 D f Q T F h g x4
theorem bL_law_985 {D : DE} {f : Nat} {Q : Int32 → Frm → HI → HL → Prop} {T : Nat → Frm → HI → HL → Prop} {F : Frm} {h : HI} {g : HL} (hF : k_Fix F) (x4 : Int32) (H : JL_law_985 D f Q T F h g x4) : V D mL_law (f + 1) (gi Q T) 985 [(0, .ref (dO D 7)), (1, .ref (ad D 0)), (2, .ref (ad D 115)), (3, .ref (ad D 159)), (4, .int x4)] [] (F, h, g) := by
  refine V_goto (tgt := 1107) dL_law_985 (by decide) ?_
  exact bL_law_1107 hF x4 H
abbrev JL_law_932 (D : DE) (f : Nat) (Q : Int32 → Frm → HI → HL → Prop) (T : Nat → Frm → HI → HL → Prop) (F : Frm) (h : HI) (g : HL) (x4 : Int32) : Prop := vp_in (x4 + 1) (dL D) ∧ Gi D f mX0_told [.ref (ad D 0), .int (dX D (ix (x4 + 1))), .ref (ad D 159)] F h g (fun y2 F5 h3 g4 => vp_in (x4 + 1) (dL D) ∧ Si D f mX8_told [.ref (ad D 115), .int (dX D (ix (x4 + 1)))] F5 h3 g4 (fun y9 h10 g11 => Si D f mX8_thrown [.ref (ad D 115)] F5 h10 g11 (fun y12 h13 g14 => ((y12 = y2 → ((¬ y2 = 0 → JL_law_985 D f Q T F5 h13 g14 x4) ∧ (y2 = 0 → (((lg_cmp (g14 159 (ix 0)) y9.toInt64) = 0 → JL_law_985 D f Q T F5 h13 g14 x4) ∧ (¬ (lg_cmp (g14 159 (ix 0)) y9.toInt64) = 0 → Q 0 F5 h13 g14))))) ∧ (¬ y12 = y2 → Q 0 F5 h13 g14))))) T
theorem bL_law_932 {D : DE} {f : Nat} {Q : Int32 → Frm → HI → HL → Prop} {T : Nat → Frm → HI → HL → Prop} {F : Frm} {h : HI} {g : HL} (hF : k_Fix F) (x4 : Int32) (H : JL_law_932 D f Q T F h g x4) : V D mL_law (f + 1) (gi Q T) 932 [(0, .ref (dO D 7)), (1, .ref (ad D 0)), (2, .ref (ad D 115)), (3, .ref (ad D 159)), (4, .int x4)] [] (F, h, g) := by
  refine V_aload_n dL_law_932 rfl 1 rfl ?_
  refine V_aload_n dL_law_933 rfl 0 rfl ?_
  refine V_iload dL_law_934 4 rfl ?_
  refine V_iconst (v := 1) dL_law_936 (by decide) ?_
  refine V_iadd dL_law_937 ?_
  obtain ⟨i1, H⟩ := H
  refine V_ti (v := .int (dX D (ix (x4 + 1)))) (fun _ hE => k_scr hE) i1 rfl dL_law_938 ?_
  refine V_aload_n dL_law_939 rfl 3 rfl ?_
  refine G_calli (av := [.ref (ad D 0), .int (dX D (ix (x4 + 1))), .ref (ad D 159)]) (rest := []) H mqX0_told q80 (by decide) (Nat.le_of_ble_eq_true rfl) (k_resS (av := [.ref (ad D 0), .int (dX D (ix (x4 + 1))), .ref (ad D 159)]) (rest := []) (M1 := mX0_told) rfl q1427 q1428 q80 mqX0_told (fun _ _ h => mW_namedW h) mhX0_told mnX0_told dL_law_940) (fun y2 F5 h3 g4 hF6 H => ?_) (fun a e F1 h1 g1 hF1 ha ht => GT_i hF1 rfl ha ht)
  refine V_istore (l1 := [(5, .int y2), (0, .ref (dO D 7)), (1, .ref (ad D 0)), (2, .ref (ad D 115)), (3, .ref (ad D 159)), (4, .int x4)]) dL_law_943 (by decide) rfl ?_
  refine V_aload_n dL_law_945 rfl 3 rfl ?_
  refine V_aload_n dL_law_946 rfl 1 rfl ?_
  refine V_iload dL_law_947 5 rfl ?_
  refine V_iconst (v := 1) dL_law_949 (by decide) ?_
  refine V_iadd dL_law_950 ?_
  obtain ⟨i8, H⟩ := H
  refine V_ti (v := .int (dX D (ix (x4 + 1)))) (fun _ hE => k_scr hE) i8 rfl dL_law_951 ?_
  refine H_calli (av := [.ref (ad D 115), .int (dX D (ix (x4 + 1)))]) (rest := []) H mqX8_told q88 (by decide) (Nat.le_of_ble_eq_true rfl) (k_resV (ci := 7) (av := [.int (dX D (ix (x4 + 1)))]) (rest := []) (fs_115 hF6) (by decide) rfl rfl q2006 q2007 q2008 q2009 mhX8_told mnX8_told dL_law_952) (fun y9 h10 g11 H => ?_)
  refine V_istore (l1 := [(6, .int y9), (5, .int y2), (0, .ref (dO D 7)), (1, .ref (ad D 0)), (2, .ref (ad D 115)), (3, .ref (ad D 159)), (4, .int x4)]) dL_law_955 (by decide) rfl ?_
  refine V_aload_n dL_law_957 rfl 4 rfl ?_
  refine H_calli (av := [.ref (ad D 115)]) (rest := []) H mqX8_thrown q88 (by decide) (Nat.le_of_ble_eq_true rfl) (k_resV (ci := 7) (av := []) (rest := []) (fs_115 hF6) (by decide) rfl rfl q1709 q1710 q1711 q1712 mhX8_thrown mnX8_thrown dL_law_958) (fun y12 h13 g14 H => ?_)
  refine V_iload dL_law_961 1 rfl ?_
  refine V_icmp_eq (tgt := 968) dL_law_963 (by decide) (fun c15 => ?_) (fun c15 => ?_)
  · have H := H.1 c15
    refine V_iload dL_law_968 1 rfl ?_
    refine V_if_ne (tgt := 985) dL_law_970 (by decide) (fun c16 => ?_) (fun c16 => ?_)
    · have H := H.1 c16
      refine V.sub [2, 3, 4, 5, 6] rfl ?_
      exact bL_law_985 hF6 x4 H
    · have H := H.2 c16
      refine V_aload_n dL_law_973 rfl 5 rfl ?_
      refine V_iconst (v := 0) dL_law_974 (by decide) ?_
      refine H_lald (fs_159 hF6) (by unfold vp_in; decide) dL_law_975 ?_
      refine V_iload dL_law_976 0 rfl ?_
      refine V_i2l dL_law_978 ?_
      refine V_lcmp dL_law_979 ?_
      refine V_if_eq (tgt := 985) dL_law_980 (by decide) (fun c17 => ?_) (fun c17 => ?_)
      · have H := H.1 c17
        refine V.sub [2, 3, 4, 5, 6] rfl ?_
        exact bL_law_985 hF6 x4 H
      · have H := H.2 c17
        refine V_iconst (v := 0) dL_law_983 (by decide) ?_
        exact G_zret hF6 rfl isB0 dL_law_984 H
  · have H := H.2 c15
    refine V_iconst (v := 0) dL_law_966 (by decide) ?_
    exact G_zret hF6 rfl isB0 dL_law_967 H
abbrev JL_law_929 (D : DE) (f : Nat) (Q : Int32 → Frm → HI → HL → Prop) (T : Nat → Frm → HI → HL → Prop) (F : Frm) (h : HI) (g : HL) (x4 : Int32) : Prop := JL_law_1107 D f Q T F h g x4
theorem bL_law_929 {D : DE} {f : Nat} {Q : Int32 → Frm → HI → HL → Prop} {T : Nat → Frm → HI → HL → Prop} {F : Frm} {h : HI} {g : HL} (hF : k_Fix F) (x4 : Int32) (H : JL_law_929 D f Q T F h g x4) : V D mL_law (f + 1) (gi Q T) 929 [(0, .ref (dO D 7)), (1, .ref (ad D 0)), (2, .ref (ad D 115)), (3, .ref (ad D 159)), (4, .int x4)] [] (F, h, g) := by
  refine V_goto (tgt := 1107) dL_law_929 (by decide) ?_
  exact bL_law_1107 hF x4 H
abbrev JL_law_852 (D : DE) (f : Nat) (Q : Int32 → Frm → HI → HL → Prop) (T : Nat → Frm → HI → HL → Prop) (F : Frm) (h : HI) (g : HL) (x4 : Int32) : Prop := vp_in (x4 + 1) (dL D) ∧ vp_in (x4 + 2) (dL D) ∧ vp_in (x4 + 3) (dL D) ∧ Gi D f mX0_run [.ref (ad D 0), .int (dX D (ix (x4 + 1))), .int (dX D (ix (x4 + 2))), .int (dX D (ix (x4 + 3))), .ref (ad D 159)] F h g (fun y4 F7 h5 g6 => vp_in (x4 + 1) (dL D) ∧ vp_in (x4 + 2) (dL D) ∧ vp_in (x4 + 3) (dL D) ∧ Si D f mX8_run [.ref (ad D 115), .int (dX D (ix (x4 + 1))), .int (dX D (ix (x4 + 2))), .int (dX D (ix (x4 + 3)))] F7 h5 g6 (fun y13 h14 g15 => Si D f mX8_thrown [.ref (ad D 115)] F7 h14 g15 (fun y16 h17 g18 => ((y16 = y4 → ((¬ y4 = 0 → JL_law_929 D f Q T F7 h17 g18 x4) ∧ (y4 = 0 → (((lg_cmp (g18 159 (ix 0)) y13.toInt64) = 0 → JL_law_929 D f Q T F7 h17 g18 x4) ∧ (¬ (lg_cmp (g18 159 (ix 0)) y13.toInt64) = 0 → Q 0 F7 h17 g18))))) ∧ (¬ y16 = y4 → Q 0 F7 h17 g18))))) T
theorem bL_law_852 {D : DE} {f : Nat} {Q : Int32 → Frm → HI → HL → Prop} {T : Nat → Frm → HI → HL → Prop} {F : Frm} {h : HI} {g : HL} (hF : k_Fix F) (x4 : Int32) (H : JL_law_852 D f Q T F h g x4) : V D mL_law (f + 1) (gi Q T) 852 [(0, .ref (dO D 7)), (1, .ref (ad D 0)), (2, .ref (ad D 115)), (3, .ref (ad D 159)), (4, .int x4)] [] (F, h, g) := by
  refine V_aload_n dL_law_852 rfl 1 rfl ?_
  refine V_aload_n dL_law_853 rfl 0 rfl ?_
  refine V_iload dL_law_854 4 rfl ?_
  refine V_iconst (v := 1) dL_law_856 (by decide) ?_
  refine V_iadd dL_law_857 ?_
  obtain ⟨i1, H⟩ := H
  refine V_ti (v := .int (dX D (ix (x4 + 1)))) (fun _ hE => k_scr hE) i1 rfl dL_law_858 ?_
  refine V_aload_n dL_law_859 rfl 0 rfl ?_
  refine V_iload dL_law_860 4 rfl ?_
  refine V_iconst (v := 2) dL_law_862 (by decide) ?_
  refine V_iadd dL_law_863 ?_
  obtain ⟨i2, H⟩ := H
  refine V_ti (v := .int (dX D (ix (x4 + 2)))) (fun _ hE => k_scr hE) i2 rfl dL_law_864 ?_
  refine V_aload_n dL_law_865 rfl 0 rfl ?_
  refine V_iload dL_law_866 4 rfl ?_
  refine V_iconst (v := 3) dL_law_868 (by decide) ?_
  refine V_iadd dL_law_869 ?_
  obtain ⟨i3, H⟩ := H
  refine V_ti (v := .int (dX D (ix (x4 + 3)))) (fun _ hE => k_scr hE) i3 rfl dL_law_870 ?_
  refine V_aload_n dL_law_871 rfl 3 rfl ?_
  refine G_calli (av := [.ref (ad D 0), .int (dX D (ix (x4 + 1))), .int (dX D (ix (x4 + 2))), .int (dX D (ix (x4 + 3))), .ref (ad D 159)]) (rest := []) H mqX0_run q80 (by decide) (Nat.le_of_ble_eq_true rfl) (k_resS (av := [.ref (ad D 0), .int (dX D (ix (x4 + 1))), .int (dX D (ix (x4 + 2))), .int (dX D (ix (x4 + 3))), .ref (ad D 159)]) (rest := []) (M1 := mX0_run) rfl q1312 q1313 q80 mqX0_run (fun _ _ h => mW_namedW h) mhX0_run mnX0_run dL_law_872) (fun y4 F7 h5 g6 hF8 H => ?_) (fun a e F1 h1 g1 hF1 ha ht => GT_i hF1 rfl ha ht)
  refine V_istore (l1 := [(5, .int y4), (0, .ref (dO D 7)), (1, .ref (ad D 0)), (2, .ref (ad D 115)), (3, .ref (ad D 159)), (4, .int x4)]) dL_law_875 (by decide) rfl ?_
  refine V_aload_n dL_law_877 rfl 3 rfl ?_
  refine V_aload_n dL_law_878 rfl 1 rfl ?_
  refine V_iload dL_law_879 5 rfl ?_
  refine V_iconst (v := 1) dL_law_881 (by decide) ?_
  refine V_iadd dL_law_882 ?_
  obtain ⟨i10, H⟩ := H
  refine V_ti (v := .int (dX D (ix (x4 + 1)))) (fun _ hE => k_scr hE) i10 rfl dL_law_883 ?_
  refine V_aload_n dL_law_884 rfl 1 rfl ?_
  refine V_iload dL_law_885 5 rfl ?_
  refine V_iconst (v := 2) dL_law_887 (by decide) ?_
  refine V_iadd dL_law_888 ?_
  obtain ⟨i11, H⟩ := H
  refine V_ti (v := .int (dX D (ix (x4 + 2)))) (fun _ hE => k_scr hE) i11 rfl dL_law_889 ?_
  refine V_aload_n dL_law_890 rfl 1 rfl ?_
  refine V_iload dL_law_891 5 rfl ?_
  refine V_iconst (v := 3) dL_law_893 (by decide) ?_
  refine V_iadd dL_law_894 ?_
  obtain ⟨i12, H⟩ := H
  refine V_ti (v := .int (dX D (ix (x4 + 3)))) (fun _ hE => k_scr hE) i12 rfl dL_law_895 ?_
  refine H_calli (av := [.ref (ad D 115), .int (dX D (ix (x4 + 1))), .int (dX D (ix (x4 + 2))), .int (dX D (ix (x4 + 3)))]) (rest := []) H mqX8_run q88 (by decide) (Nat.le_of_ble_eq_true rfl) (k_resV (ci := 7) (av := [.int (dX D (ix (x4 + 1))), .int (dX D (ix (x4 + 2))), .int (dX D (ix (x4 + 3)))]) (rest := []) (fs_115 hF8) (by decide) rfl rfl q1961 q1962 q1963 q1964 mhX8_run mnX8_run dL_law_896) (fun y13 h14 g15 H => ?_)
  refine V_istore (l1 := [(6, .int y13), (5, .int y4), (0, .ref (dO D 7)), (1, .ref (ad D 0)), (2, .ref (ad D 115)), (3, .ref (ad D 159)), (4, .int x4)]) dL_law_899 (by decide) rfl ?_
  refine V_aload_n dL_law_901 rfl 4 rfl ?_
  refine H_calli (av := [.ref (ad D 115)]) (rest := []) H mqX8_thrown q88 (by decide) (Nat.le_of_ble_eq_true rfl) (k_resV (ci := 7) (av := []) (rest := []) (fs_115 hF8) (by decide) rfl rfl q1709 q1710 q1711 q1712 mhX8_thrown mnX8_thrown dL_law_902) (fun y16 h17 g18 H => ?_)
  refine V_iload dL_law_905 1 rfl ?_
  refine V_icmp_eq (tgt := 912) dL_law_907 (by decide) (fun c19 => ?_) (fun c19 => ?_)
  · have H := H.1 c19
    refine V_iload dL_law_912 1 rfl ?_
    refine V_if_ne (tgt := 929) dL_law_914 (by decide) (fun c20 => ?_) (fun c20 => ?_)
    · have H := H.1 c20
      refine V.sub [2, 3, 4, 5, 6] rfl ?_
      exact bL_law_929 hF8 x4 H
    · have H := H.2 c20
      refine V_aload_n dL_law_917 rfl 5 rfl ?_
      refine V_iconst (v := 0) dL_law_918 (by decide) ?_
      refine H_lald (fs_159 hF8) (by unfold vp_in; decide) dL_law_919 ?_
      refine V_iload dL_law_920 0 rfl ?_
      refine V_i2l dL_law_922 ?_
      refine V_lcmp dL_law_923 ?_
      refine V_if_eq (tgt := 929) dL_law_924 (by decide) (fun c21 => ?_) (fun c21 => ?_)
      · have H := H.1 c21
        refine V.sub [2, 3, 4, 5, 6] rfl ?_
        exact bL_law_929 hF8 x4 H
      · have H := H.2 c21
        refine V_iconst (v := 0) dL_law_927 (by decide) ?_
        exact G_zret hF8 rfl isB0 dL_law_928 H
  · have H := H.2 c19
    refine V_iconst (v := 0) dL_law_910 (by decide) ?_
    exact G_zret hF8 rfl isB0 dL_law_911 H
abbrev JL_law_849 (D : DE) (f : Nat) (Q : Int32 → Frm → HI → HL → Prop) (T : Nat → Frm → HI → HL → Prop) (F : Frm) (h : HI) (g : HL) (x4 : Int32) : Prop := JL_law_1107 D f Q T F h g x4
theorem bL_law_849 {D : DE} {f : Nat} {Q : Int32 → Frm → HI → HL → Prop} {T : Nat → Frm → HI → HL → Prop} {F : Frm} {h : HI} {g : HL} (hF : k_Fix F) (x4 : Int32) (H : JL_law_849 D f Q T F h g x4) : V D mL_law (f + 1) (gi Q T) 849 [(0, .ref (dO D 7)), (1, .ref (ad D 0)), (2, .ref (ad D 115)), (3, .ref (ad D 159)), (4, .int x4)] [] (F, h, g) := by
  refine V_goto (tgt := 1107) dL_law_849 (by decide) ?_
  exact bL_law_1107 hF x4 H
abbrev JL_law_784 (D : DE) (f : Nat) (Q : Int32 → Frm → HI → HL → Prop) (T : Nat → Frm → HI → HL → Prop) (F : Frm) (h : HI) (g : HL) (x4 : Int32) : Prop := vp_in (x4 + 1) (dL D) ∧ vp_in (x4 + 2) (dL D) ∧ Gi D f mX0_input [.ref (ad D 0), .int (dX D (ix (x4 + 1))), .int (dX D (ix (x4 + 2))), .ref (ad D 159)] F h g (fun y3 F6 h4 g5 => vp_in (x4 + 1) (dL D) ∧ vp_in (x4 + 2) (dL D) ∧ Si D f mX8_input [.ref (ad D 115), .int (dX D (ix (x4 + 1))), .int (dX D (ix (x4 + 2)))] F6 h4 g5 (fun y11 h12 g13 => Si D f mX8_thrown [.ref (ad D 115)] F6 h12 g13 (fun y14 h15 g16 => ((y14 = y3 → ((¬ y3 = 0 → JL_law_849 D f Q T F6 h15 g16 x4) ∧ (y3 = 0 → (((lg_cmp (g16 159 (ix 0)) y11.toInt64) = 0 → JL_law_849 D f Q T F6 h15 g16 x4) ∧ (¬ (lg_cmp (g16 159 (ix 0)) y11.toInt64) = 0 → Q 0 F6 h15 g16))))) ∧ (¬ y14 = y3 → Q 0 F6 h15 g16))))) T
theorem bL_law_784 {D : DE} {f : Nat} {Q : Int32 → Frm → HI → HL → Prop} {T : Nat → Frm → HI → HL → Prop} {F : Frm} {h : HI} {g : HL} (hF : k_Fix F) (x4 : Int32) (H : JL_law_784 D f Q T F h g x4) : V D mL_law (f + 1) (gi Q T) 784 [(0, .ref (dO D 7)), (1, .ref (ad D 0)), (2, .ref (ad D 115)), (3, .ref (ad D 159)), (4, .int x4)] [] (F, h, g) := by
  refine V_aload_n dL_law_784 rfl 1 rfl ?_
  refine V_aload_n dL_law_785 rfl 0 rfl ?_
  refine V_iload dL_law_786 4 rfl ?_
  refine V_iconst (v := 1) dL_law_788 (by decide) ?_
  refine V_iadd dL_law_789 ?_
  obtain ⟨i1, H⟩ := H
  refine V_ti (v := .int (dX D (ix (x4 + 1)))) (fun _ hE => k_scr hE) i1 rfl dL_law_790 ?_
  refine V_aload_n dL_law_791 rfl 0 rfl ?_
  refine V_iload dL_law_792 4 rfl ?_
  refine V_iconst (v := 2) dL_law_794 (by decide) ?_
  refine V_iadd dL_law_795 ?_
  obtain ⟨i2, H⟩ := H
  refine V_ti (v := .int (dX D (ix (x4 + 2)))) (fun _ hE => k_scr hE) i2 rfl dL_law_796 ?_
  refine V_aload_n dL_law_797 rfl 3 rfl ?_
  refine G_calli (av := [.ref (ad D 0), .int (dX D (ix (x4 + 1))), .int (dX D (ix (x4 + 2))), .ref (ad D 159)]) (rest := []) H mqX0_input q80 (by decide) (Nat.le_of_ble_eq_true rfl) (k_resS (av := [.ref (ad D 0), .int (dX D (ix (x4 + 1))), .int (dX D (ix (x4 + 2))), .ref (ad D 159)]) (rest := []) (M1 := mX0_input) rfl q1305 q1306 q80 mqX0_input (fun _ _ h => mW_namedW h) mhX0_input mnX0_input dL_law_798) (fun y3 F6 h4 g5 hF7 H => ?_) (fun a e F1 h1 g1 hF1 ha ht => GT_i hF1 rfl ha ht)
  refine V_istore (l1 := [(5, .int y3), (0, .ref (dO D 7)), (1, .ref (ad D 0)), (2, .ref (ad D 115)), (3, .ref (ad D 159)), (4, .int x4)]) dL_law_801 (by decide) rfl ?_
  refine V_aload_n dL_law_803 rfl 3 rfl ?_
  refine V_aload_n dL_law_804 rfl 1 rfl ?_
  refine V_iload dL_law_805 5 rfl ?_
  refine V_iconst (v := 1) dL_law_807 (by decide) ?_
  refine V_iadd dL_law_808 ?_
  obtain ⟨i9, H⟩ := H
  refine V_ti (v := .int (dX D (ix (x4 + 1)))) (fun _ hE => k_scr hE) i9 rfl dL_law_809 ?_
  refine V_aload_n dL_law_810 rfl 1 rfl ?_
  refine V_iload dL_law_811 5 rfl ?_
  refine V_iconst (v := 2) dL_law_813 (by decide) ?_
  refine V_iadd dL_law_814 ?_
  obtain ⟨i10, H⟩ := H
  refine V_ti (v := .int (dX D (ix (x4 + 2)))) (fun _ hE => k_scr hE) i10 rfl dL_law_815 ?_
  refine H_calli (av := [.ref (ad D 115), .int (dX D (ix (x4 + 1))), .int (dX D (ix (x4 + 2)))]) (rest := []) H mqX8_input q88 (by decide) (Nat.le_of_ble_eq_true rfl) (k_resV (ci := 7) (av := [.int (dX D (ix (x4 + 1))), .int (dX D (ix (x4 + 2)))]) (rest := []) (fs_115 hF7) (by decide) rfl rfl q1956 q1957 q1958 q1959 mhX8_input mnX8_input dL_law_816) (fun y11 h12 g13 H => ?_)
  refine V_istore (l1 := [(6, .int y11), (5, .int y3), (0, .ref (dO D 7)), (1, .ref (ad D 0)), (2, .ref (ad D 115)), (3, .ref (ad D 159)), (4, .int x4)]) dL_law_819 (by decide) rfl ?_
  refine V_aload_n dL_law_821 rfl 4 rfl ?_
  refine H_calli (av := [.ref (ad D 115)]) (rest := []) H mqX8_thrown q88 (by decide) (Nat.le_of_ble_eq_true rfl) (k_resV (ci := 7) (av := []) (rest := []) (fs_115 hF7) (by decide) rfl rfl q1709 q1710 q1711 q1712 mhX8_thrown mnX8_thrown dL_law_822) (fun y14 h15 g16 H => ?_)
  refine V_iload dL_law_825 1 rfl ?_
  refine V_icmp_eq (tgt := 832) dL_law_827 (by decide) (fun c17 => ?_) (fun c17 => ?_)
  · have H := H.1 c17
    refine V_iload dL_law_832 1 rfl ?_
    refine V_if_ne (tgt := 849) dL_law_834 (by decide) (fun c18 => ?_) (fun c18 => ?_)
    · have H := H.1 c18
      refine V.sub [2, 3, 4, 5, 6] rfl ?_
      exact bL_law_849 hF7 x4 H
    · have H := H.2 c18
      refine V_aload_n dL_law_837 rfl 5 rfl ?_
      refine V_iconst (v := 0) dL_law_838 (by decide) ?_
      refine H_lald (fs_159 hF7) (by unfold vp_in; decide) dL_law_839 ?_
      refine V_iload dL_law_840 0 rfl ?_
      refine V_i2l dL_law_842 ?_
      refine V_lcmp dL_law_843 ?_
      refine V_if_eq (tgt := 849) dL_law_844 (by decide) (fun c19 => ?_) (fun c19 => ?_)
      · have H := H.1 c19
        refine V.sub [2, 3, 4, 5, 6] rfl ?_
        exact bL_law_849 hF7 x4 H
      · have H := H.2 c19
        refine V_iconst (v := 0) dL_law_847 (by decide) ?_
        exact G_zret hF7 rfl isB0 dL_law_848 H
  · have H := H.2 c17
    refine V_iconst (v := 0) dL_law_830 (by decide) ?_
    exact G_zret hF7 rfl isB0 dL_law_831 H
abbrev JL_law_781 (D : DE) (f : Nat) (Q : Int32 → Frm → HI → HL → Prop) (T : Nat → Frm → HI → HL → Prop) (F : Frm) (h : HI) (g : HL) (x4 : Int32) : Prop := JL_law_1107 D f Q T F h g x4
theorem bL_law_781 {D : DE} {f : Nat} {Q : Int32 → Frm → HI → HL → Prop} {T : Nat → Frm → HI → HL → Prop} {F : Frm} {h : HI} {g : HL} (hF : k_Fix F) (x4 : Int32) (H : JL_law_781 D f Q T F h g x4) : V D mL_law (f + 1) (gi Q T) 781 [(0, .ref (dO D 7)), (1, .ref (ad D 0)), (2, .ref (ad D 115)), (3, .ref (ad D 159)), (4, .int x4)] [] (F, h, g) := by
  refine V_goto (tgt := 1107) dL_law_781 (by decide) ?_
  exact bL_law_1107 hF x4 H
abbrev JL_law_740 (D : DE) (f : Nat) (Q : Int32 → Frm → HI → HL → Prop) (T : Nat → Frm → HI → HL → Prop) (F : Frm) (h : HI) (g : HL) (x4 : Int32) : Prop := Gi D f mX0_check [.ref (ad D 0), .ref (ad D 159)] F h g (fun y1 F4 h2 g3 => Si D f mX8_check [.ref (ad D 115)] F4 h2 g3 (fun y7 h8 g9 => Si D f mX8_thrown [.ref (ad D 115)] F4 h8 g9 (fun y10 h11 g12 => ((y10 = y1 → ((¬ y1 = 0 → JL_law_781 D f Q T F4 h11 g12 x4) ∧ (y1 = 0 → (((lg_cmp (g12 159 (ix 0)) y7.toInt64) = 0 → JL_law_781 D f Q T F4 h11 g12 x4) ∧ (¬ (lg_cmp (g12 159 (ix 0)) y7.toInt64) = 0 → Q 0 F4 h11 g12))))) ∧ (¬ y10 = y1 → Q 0 F4 h11 g12))))) T
theorem bL_law_740 {D : DE} {f : Nat} {Q : Int32 → Frm → HI → HL → Prop} {T : Nat → Frm → HI → HL → Prop} {F : Frm} {h : HI} {g : HL} (hF : k_Fix F) (x4 : Int32) (H : JL_law_740 D f Q T F h g x4) : V D mL_law (f + 1) (gi Q T) 740 [(0, .ref (dO D 7)), (1, .ref (ad D 0)), (2, .ref (ad D 115)), (3, .ref (ad D 159)), (4, .int x4)] [] (F, h, g) := by
  refine V_aload_n dL_law_740 rfl 1 rfl ?_
  refine V_aload_n dL_law_741 rfl 3 rfl ?_
  refine G_calli (av := [.ref (ad D 0), .ref (ad D 159)]) (rest := []) H mqX0_check q80 (by decide) (Nat.le_of_ble_eq_true rfl) (k_resS (av := [.ref (ad D 0), .ref (ad D 159)]) (rest := []) (M1 := mX0_check) rfl q1298 q1299 q80 mqX0_check (fun _ _ h => mW_namedW h) mhX0_check mnX0_check dL_law_742) (fun y1 F4 h2 g3 hF5 H => ?_) (fun a e F1 h1 g1 hF1 ha ht => GT_i hF1 rfl ha ht)
  refine V_istore (l1 := [(5, .int y1), (0, .ref (dO D 7)), (1, .ref (ad D 0)), (2, .ref (ad D 115)), (3, .ref (ad D 159)), (4, .int x4)]) dL_law_745 (by decide) rfl ?_
  refine V_aload_n dL_law_747 rfl 3 rfl ?_
  refine H_calli (av := [.ref (ad D 115)]) (rest := []) H mqX8_check q88 (by decide) (Nat.le_of_ble_eq_true rfl) (k_resV (ci := 7) (av := []) (rest := []) (fs_115 hF5) (by decide) rfl rfl q1948 q1949 q1950 q1951 mhX8_check mnX8_check dL_law_748) (fun y7 h8 g9 H => ?_)
  refine V_istore (l1 := [(6, .int y7), (5, .int y1), (0, .ref (dO D 7)), (1, .ref (ad D 0)), (2, .ref (ad D 115)), (3, .ref (ad D 159)), (4, .int x4)]) dL_law_751 (by decide) rfl ?_
  refine V_aload_n dL_law_753 rfl 4 rfl ?_
  refine H_calli (av := [.ref (ad D 115)]) (rest := []) H mqX8_thrown q88 (by decide) (Nat.le_of_ble_eq_true rfl) (k_resV (ci := 7) (av := []) (rest := []) (fs_115 hF5) (by decide) rfl rfl q1709 q1710 q1711 q1712 mhX8_thrown mnX8_thrown dL_law_754) (fun y10 h11 g12 H => ?_)
  refine V_iload dL_law_757 1 rfl ?_
  refine V_icmp_eq (tgt := 764) dL_law_759 (by decide) (fun c13 => ?_) (fun c13 => ?_)
  · have H := H.1 c13
    refine V_iload dL_law_764 1 rfl ?_
    refine V_if_ne (tgt := 781) dL_law_766 (by decide) (fun c14 => ?_) (fun c14 => ?_)
    · have H := H.1 c14
      refine V.sub [2, 3, 4, 5, 6] rfl ?_
      exact bL_law_781 hF5 x4 H
    · have H := H.2 c14
      refine V_aload_n dL_law_769 rfl 5 rfl ?_
      refine V_iconst (v := 0) dL_law_770 (by decide) ?_
      refine H_lald (fs_159 hF5) (by unfold vp_in; decide) dL_law_771 ?_
      refine V_iload dL_law_772 0 rfl ?_
      refine V_i2l dL_law_774 ?_
      refine V_lcmp dL_law_775 ?_
      refine V_if_eq (tgt := 781) dL_law_776 (by decide) (fun c15 => ?_) (fun c15 => ?_)
      · have H := H.1 c15
        refine V.sub [2, 3, 4, 5, 6] rfl ?_
        exact bL_law_781 hF5 x4 H
      · have H := H.2 c15
        refine V_iconst (v := 0) dL_law_779 (by decide) ?_
        exact G_zret hF5 rfl isB0 dL_law_780 H
  · have H := H.2 c13
    refine V_iconst (v := 0) dL_law_762 (by decide) ?_
    exact G_zret hF5 rfl isB0 dL_law_763 H
abbrev JL_law_737 (D : DE) (f : Nat) (Q : Int32 → Frm → HI → HL → Prop) (T : Nat → Frm → HI → HL → Prop) (F : Frm) (h : HI) (g : HL) (x4 : Int32) : Prop := JL_law_1107 D f Q T F h g x4
theorem bL_law_737 {D : DE} {f : Nat} {Q : Int32 → Frm → HI → HL → Prop} {T : Nat → Frm → HI → HL → Prop} {F : Frm} {h : HI} {g : HL} (hF : k_Fix F) (x4 : Int32) (H : JL_law_737 D f Q T F h g x4) : V D mL_law (f + 1) (gi Q T) 737 [(0, .ref (dO D 7)), (1, .ref (ad D 0)), (2, .ref (ad D 115)), (3, .ref (ad D 159)), (4, .int x4)] [] (F, h, g) := by
  refine V_goto (tgt := 1107) dL_law_737 (by decide) ?_
  exact bL_law_1107 hF x4 H
abbrev JL_law_648 (D : DE) (f : Nat) (Q : Int32 → Frm → HI → HL → Prop) (T : Nat → Frm → HI → HL → Prop) (F : Frm) (h : HI) (g : HL) (x4 : Int32) : Prop := vp_in (x4 + 1) (dL D) ∧ vp_in (x4 + 2) (dL D) ∧ vp_in (x4 + 3) (dL D) ∧ vp_in (x4 + 4) (dL D) ∧ Gi D f mX0_plant [.ref (ad D 0), .int (dX D (ix (x4 + 1))), .int (dX D (ix (x4 + 2))), .int (dX D (ix (x4 + 3))), .int (dX D (ix (x4 + 4))), .ref (ad D 159)] F h g (fun y5 F8 h6 g7 => vp_in (x4 + 1) (dL D) ∧ vp_in (x4 + 2) (dL D) ∧ vp_in (x4 + 3) (dL D) ∧ vp_in (x4 + 4) (dL D) ∧ Si D f mX8_plant [.ref (ad D 115), .int (dX D (ix (x4 + 1))), .int (dX D (ix (x4 + 2))), .int (dX D (ix (x4 + 3))), .int (dX D (ix (x4 + 4)))] F8 h6 g7 (fun y15 h16 g17 => Si D f mX8_thrown [.ref (ad D 115)] F8 h16 g17 (fun y18 h19 g20 => ((y18 = y5 → ((¬ y5 = 0 → JL_law_737 D f Q T F8 h19 g20 x4) ∧ (y5 = 0 → (((lg_cmp (g20 159 (ix 0)) y15.toInt64) = 0 → JL_law_737 D f Q T F8 h19 g20 x4) ∧ (¬ (lg_cmp (g20 159 (ix 0)) y15.toInt64) = 0 → Q 0 F8 h19 g20))))) ∧ (¬ y18 = y5 → Q 0 F8 h19 g20))))) T
theorem bL_law_648 {D : DE} {f : Nat} {Q : Int32 → Frm → HI → HL → Prop} {T : Nat → Frm → HI → HL → Prop} {F : Frm} {h : HI} {g : HL} (hF : k_Fix F) (x4 : Int32) (H : JL_law_648 D f Q T F h g x4) : V D mL_law (f + 1) (gi Q T) 648 [(0, .ref (dO D 7)), (1, .ref (ad D 0)), (2, .ref (ad D 115)), (3, .ref (ad D 159)), (4, .int x4)] [] (F, h, g) := by
  refine V_aload_n dL_law_648 rfl 1 rfl ?_
  refine V_aload_n dL_law_649 rfl 0 rfl ?_
  refine V_iload dL_law_650 4 rfl ?_
  refine V_iconst (v := 1) dL_law_652 (by decide) ?_
  refine V_iadd dL_law_653 ?_
  obtain ⟨i1, H⟩ := H
  refine V_ti (v := .int (dX D (ix (x4 + 1)))) (fun _ hE => k_scr hE) i1 rfl dL_law_654 ?_
  refine V_aload_n dL_law_655 rfl 0 rfl ?_
  refine V_iload dL_law_656 4 rfl ?_
  refine V_iconst (v := 2) dL_law_658 (by decide) ?_
  refine V_iadd dL_law_659 ?_
  obtain ⟨i2, H⟩ := H
  refine V_ti (v := .int (dX D (ix (x4 + 2)))) (fun _ hE => k_scr hE) i2 rfl dL_law_660 ?_
  refine V_aload_n dL_law_661 rfl 0 rfl ?_
  refine V_iload dL_law_662 4 rfl ?_
  refine V_iconst (v := 3) dL_law_664 (by decide) ?_
  refine V_iadd dL_law_665 ?_
  obtain ⟨i3, H⟩ := H
  refine V_ti (v := .int (dX D (ix (x4 + 3)))) (fun _ hE => k_scr hE) i3 rfl dL_law_666 ?_
  refine V_aload_n dL_law_667 rfl 0 rfl ?_
  refine V_iload dL_law_668 4 rfl ?_
  refine V_iconst (v := 4) dL_law_670 (by decide) ?_
  refine V_iadd dL_law_671 ?_
  obtain ⟨i4, H⟩ := H
  refine V_ti (v := .int (dX D (ix (x4 + 4)))) (fun _ hE => k_scr hE) i4 rfl dL_law_672 ?_
  refine V_aload_n dL_law_673 rfl 3 rfl ?_
  refine G_calli (av := [.ref (ad D 0), .int (dX D (ix (x4 + 1))), .int (dX D (ix (x4 + 2))), .int (dX D (ix (x4 + 3))), .int (dX D (ix (x4 + 4))), .ref (ad D 159)]) (rest := []) H mqX0_plant q80 (by decide) (Nat.le_of_ble_eq_true rfl) (k_resS (av := [.ref (ad D 0), .int (dX D (ix (x4 + 1))), .int (dX D (ix (x4 + 2))), .int (dX D (ix (x4 + 3))), .int (dX D (ix (x4 + 4))), .ref (ad D 159)]) (rest := []) (M1 := mX0_plant) rfl q1291 q1292 q80 mqX0_plant (fun _ _ h => mW_namedW h) mhX0_plant mnX0_plant dL_law_674) (fun y5 F8 h6 g7 hF9 H => ?_) (fun a e F1 h1 g1 hF1 ha ht => GT_i hF1 rfl ha ht)
  refine V_istore (l1 := [(5, .int y5), (0, .ref (dO D 7)), (1, .ref (ad D 0)), (2, .ref (ad D 115)), (3, .ref (ad D 159)), (4, .int x4)]) dL_law_677 (by decide) rfl ?_
  refine V_aload_n dL_law_679 rfl 3 rfl ?_
  refine V_aload_n dL_law_680 rfl 1 rfl ?_
  refine V_iload dL_law_681 5 rfl ?_
  refine V_iconst (v := 1) dL_law_683 (by decide) ?_
  refine V_iadd dL_law_684 ?_
  obtain ⟨i11, H⟩ := H
  refine V_ti (v := .int (dX D (ix (x4 + 1)))) (fun _ hE => k_scr hE) i11 rfl dL_law_685 ?_
  refine V_aload_n dL_law_686 rfl 1 rfl ?_
  refine V_iload dL_law_687 5 rfl ?_
  refine V_iconst (v := 2) dL_law_689 (by decide) ?_
  refine V_iadd dL_law_690 ?_
  obtain ⟨i12, H⟩ := H
  refine V_ti (v := .int (dX D (ix (x4 + 2)))) (fun _ hE => k_scr hE) i12 rfl dL_law_691 ?_
  refine V_aload_n dL_law_692 rfl 1 rfl ?_
  refine V_iload dL_law_693 5 rfl ?_
  refine V_iconst (v := 3) dL_law_695 (by decide) ?_
  refine V_iadd dL_law_696 ?_
  obtain ⟨i13, H⟩ := H
  refine V_ti (v := .int (dX D (ix (x4 + 3)))) (fun _ hE => k_scr hE) i13 rfl dL_law_697 ?_
  refine V_aload_n dL_law_698 rfl 1 rfl ?_
  refine V_iload dL_law_699 5 rfl ?_
  refine V_iconst (v := 4) dL_law_701 (by decide) ?_
  refine V_iadd dL_law_702 ?_
  obtain ⟨i14, H⟩ := H
  refine V_ti (v := .int (dX D (ix (x4 + 4)))) (fun _ hE => k_scr hE) i14 rfl dL_law_703 ?_
  refine H_calli (av := [.ref (ad D 115), .int (dX D (ix (x4 + 1))), .int (dX D (ix (x4 + 2))), .int (dX D (ix (x4 + 3))), .int (dX D (ix (x4 + 4)))]) (rest := []) H mqX8_plant q88 (by decide) (Nat.le_of_ble_eq_true rfl) (k_resV (ci := 7) (av := [.int (dX D (ix (x4 + 1))), .int (dX D (ix (x4 + 2))), .int (dX D (ix (x4 + 3))), .int (dX D (ix (x4 + 4)))]) (rest := []) (fs_115 hF9) (by decide) rfl rfl q1944 q1945 q1946 q1947 mhX8_plant mnX8_plant dL_law_704) (fun y15 h16 g17 H => ?_)
  refine V_istore (l1 := [(6, .int y15), (5, .int y5), (0, .ref (dO D 7)), (1, .ref (ad D 0)), (2, .ref (ad D 115)), (3, .ref (ad D 159)), (4, .int x4)]) dL_law_707 (by decide) rfl ?_
  refine V_aload_n dL_law_709 rfl 4 rfl ?_
  refine H_calli (av := [.ref (ad D 115)]) (rest := []) H mqX8_thrown q88 (by decide) (Nat.le_of_ble_eq_true rfl) (k_resV (ci := 7) (av := []) (rest := []) (fs_115 hF9) (by decide) rfl rfl q1709 q1710 q1711 q1712 mhX8_thrown mnX8_thrown dL_law_710) (fun y18 h19 g20 H => ?_)
  refine V_iload dL_law_713 1 rfl ?_
  refine V_icmp_eq (tgt := 720) dL_law_715 (by decide) (fun c21 => ?_) (fun c21 => ?_)
  · have H := H.1 c21
    refine V_iload dL_law_720 1 rfl ?_
    refine V_if_ne (tgt := 737) dL_law_722 (by decide) (fun c22 => ?_) (fun c22 => ?_)
    · have H := H.1 c22
      refine V.sub [2, 3, 4, 5, 6] rfl ?_
      exact bL_law_737 hF9 x4 H
    · have H := H.2 c22
      refine V_aload_n dL_law_725 rfl 5 rfl ?_
      refine V_iconst (v := 0) dL_law_726 (by decide) ?_
      refine H_lald (fs_159 hF9) (by unfold vp_in; decide) dL_law_727 ?_
      refine V_iload dL_law_728 0 rfl ?_
      refine V_i2l dL_law_730 ?_
      refine V_lcmp dL_law_731 ?_
      refine V_if_eq (tgt := 737) dL_law_732 (by decide) (fun c23 => ?_) (fun c23 => ?_)
      · have H := H.1 c23
        refine V.sub [2, 3, 4, 5, 6] rfl ?_
        exact bL_law_737 hF9 x4 H
      · have H := H.2 c23
        refine V_iconst (v := 0) dL_law_735 (by decide) ?_
        exact G_zret hF9 rfl isB0 dL_law_736 H
  · have H := H.2 c21
    refine V_iconst (v := 0) dL_law_718 (by decide) ?_
    exact G_zret hF9 rfl isB0 dL_law_719 H
abbrev JL_law_645 (D : DE) (f : Nat) (Q : Int32 → Frm → HI → HL → Prop) (T : Nat → Frm → HI → HL → Prop) (F : Frm) (h : HI) (g : HL) (x4 : Int32) : Prop := JL_law_1107 D f Q T F h g x4
theorem bL_law_645 {D : DE} {f : Nat} {Q : Int32 → Frm → HI → HL → Prop} {T : Nat → Frm → HI → HL → Prop} {F : Frm} {h : HI} {g : HL} (hF : k_Fix F) (x4 : Int32) (H : JL_law_645 D f Q T F h g x4) : V D mL_law (f + 1) (gi Q T) 645 [(0, .ref (dO D 7)), (1, .ref (ad D 0)), (2, .ref (ad D 115)), (3, .ref (ad D 159)), (4, .int x4)] [] (F, h, g) := by
  refine V_goto (tgt := 1107) dL_law_645 (by decide) ?_
  exact bL_law_1107 hF x4 H
abbrev JL_law_639 (D : DE) (f : Nat) (Q : Int32 → Frm → HI → HL → Prop) (T : Nat → Frm → HI → HL → Prop) (F : Frm) (h : HI) (g : HL) (x4 : Int32) (s0 : Int64) (s1 : Int64) : Prop := (((lg_cmp s0 s1) = 0 → JL_law_645 D f Q T F h g x4) ∧ (¬ (lg_cmp s0 s1) = 0 → Q 0 F h g))
theorem bL_law_639 {D : DE} {f : Nat} {Q : Int32 → Frm → HI → HL → Prop} {T : Nat → Frm → HI → HL → Prop} {F : Frm} {h : HI} {g : HL} (hF : k_Fix F) (x4 : Int32) (s0 : Int64) (s1 : Int64) (H : JL_law_639 D f Q T F h g x4 s0 s1) : V D mL_law (f + 1) (gi Q T) 639 [(0, .ref (dO D 7)), (1, .ref (ad D 0)), (2, .ref (ad D 115)), (3, .ref (ad D 159)), (4, .int x4)] [.long s1, .long s0] (F, h, g) := by
  refine V_lcmp dL_law_639 ?_
  refine V_if_eq (tgt := 645) dL_law_640 (by decide) (fun c1 => ?_) (fun c1 => ?_)
  · have H := H.1 c1
    exact bL_law_645 hF x4 H
  · have H := H.2 c1
    refine V_iconst (v := 0) dL_law_643 (by decide) ?_
    exact G_zret hF rfl isB0 dL_law_644 H
abbrev JL_law_573 (D : DE) (f : Nat) (Q : Int32 → Frm → HI → HL → Prop) (T : Nat → Frm → HI → HL → Prop) (F : Frm) (h : HI) (g : HL) (x4 : Int32) : Prop := vp_in (x4 + 1) (dL D) ∧ vp_in (x4 + 2) (dL D) ∧ Gi D f mX0_strict [.ref (ad D 0), .int (dX D (ix (x4 + 1))), .int (dX D (ix (x4 + 2))), .ref (ad D 159)] F h g (fun y3 F6 h4 g5 => vp_in (x4 + 1) (dL D) ∧ vp_in (x4 + 2) (dL D) ∧ Si D f mX8_strict [.ref (ad D 115), .int (dX D (ix (x4 + 1))), .int (dX D (ix (x4 + 2)))] F6 h4 g5 (fun y11 h12 g13 => Si D f mX8_thrown [.ref (ad D 115)] F6 h12 g13 (fun y14 h15 g16 => ((y14 = y3 → ((¬ y3 = 0 → JL_law_645 D f Q T F6 h15 g16 x4) ∧ (y3 = 0 → ((y11 = 0 → JL_law_639 D f Q T F6 h15 g16 x4 (g16 159 (ix 0)) 0) ∧ (¬ y11 = 0 → JL_law_639 D f Q T F6 h15 g16 x4 (g16 159 (ix 0)) 1))))) ∧ (¬ y14 = y3 → Q 0 F6 h15 g16))))) T
theorem bL_law_573 {D : DE} {f : Nat} {Q : Int32 → Frm → HI → HL → Prop} {T : Nat → Frm → HI → HL → Prop} {F : Frm} {h : HI} {g : HL} (hF : k_Fix F) (x4 : Int32) (H : JL_law_573 D f Q T F h g x4) : V D mL_law (f + 1) (gi Q T) 573 [(0, .ref (dO D 7)), (1, .ref (ad D 0)), (2, .ref (ad D 115)), (3, .ref (ad D 159)), (4, .int x4)] [] (F, h, g) := by
  refine V_aload_n dL_law_573 rfl 1 rfl ?_
  refine V_aload_n dL_law_574 rfl 0 rfl ?_
  refine V_iload dL_law_575 4 rfl ?_
  refine V_iconst (v := 1) dL_law_577 (by decide) ?_
  refine V_iadd dL_law_578 ?_
  obtain ⟨i1, H⟩ := H
  refine V_ti (v := .int (dX D (ix (x4 + 1)))) (fun _ hE => k_scr hE) i1 rfl dL_law_579 ?_
  refine V_aload_n dL_law_580 rfl 0 rfl ?_
  refine V_iload dL_law_581 4 rfl ?_
  refine V_iconst (v := 2) dL_law_583 (by decide) ?_
  refine V_iadd dL_law_584 ?_
  obtain ⟨i2, H⟩ := H
  refine V_ti (v := .int (dX D (ix (x4 + 2)))) (fun _ hE => k_scr hE) i2 rfl dL_law_585 ?_
  refine V_aload_n dL_law_586 rfl 3 rfl ?_
  refine G_calli (av := [.ref (ad D 0), .int (dX D (ix (x4 + 1))), .int (dX D (ix (x4 + 2))), .ref (ad D 159)]) (rest := []) H mqX0_strict q80 (by decide) (Nat.le_of_ble_eq_true rfl) (k_resS (av := [.ref (ad D 0), .int (dX D (ix (x4 + 1))), .int (dX D (ix (x4 + 2))), .ref (ad D 159)]) (rest := []) (M1 := mX0_strict) rfl q1283 q1284 q80 mqX0_strict (fun _ _ h => mW_namedW h) mhX0_strict mnX0_strict dL_law_587) (fun y3 F6 h4 g5 hF7 H => ?_) (fun a e F1 h1 g1 hF1 ha ht => GT_i hF1 rfl ha ht)
  refine V_istore (l1 := [(5, .int y3), (0, .ref (dO D 7)), (1, .ref (ad D 0)), (2, .ref (ad D 115)), (3, .ref (ad D 159)), (4, .int x4)]) dL_law_590 (by decide) rfl ?_
  refine V_aload_n dL_law_592 rfl 3 rfl ?_
  refine V_aload_n dL_law_593 rfl 1 rfl ?_
  refine V_iload dL_law_594 5 rfl ?_
  refine V_iconst (v := 1) dL_law_596 (by decide) ?_
  refine V_iadd dL_law_597 ?_
  obtain ⟨i9, H⟩ := H
  refine V_ti (v := .int (dX D (ix (x4 + 1)))) (fun _ hE => k_scr hE) i9 rfl dL_law_598 ?_
  refine V_aload_n dL_law_599 rfl 1 rfl ?_
  refine V_iload dL_law_600 5 rfl ?_
  refine V_iconst (v := 2) dL_law_602 (by decide) ?_
  refine V_iadd dL_law_603 ?_
  obtain ⟨i10, H⟩ := H
  refine V_ti (v := .int (dX D (ix (x4 + 2)))) (fun _ hE => k_scr hE) i10 rfl dL_law_604 ?_
  refine H_calli (av := [.ref (ad D 115), .int (dX D (ix (x4 + 1))), .int (dX D (ix (x4 + 2)))]) (rest := []) H mqX8_strict q88 (by decide) (Nat.le_of_ble_eq_true rfl) (k_resV (ci := 7) (av := [.int (dX D (ix (x4 + 1))), .int (dX D (ix (x4 + 2)))]) (rest := []) (fs_115 hF7) (by decide) rfl rfl q1940 q1941 q1942 q1943 mhX8_strict mnX8_strict dL_law_605) (fun y11 h12 g13 H => ?_)
  refine V_istore (l1 := [(6, .int y11), (5, .int y3), (0, .ref (dO D 7)), (1, .ref (ad D 0)), (2, .ref (ad D 115)), (3, .ref (ad D 159)), (4, .int x4)]) dL_law_608 (by decide) rfl ?_
  refine V_aload_n dL_law_610 rfl 4 rfl ?_
  refine H_calli (av := [.ref (ad D 115)]) (rest := []) H mqX8_thrown q88 (by decide) (Nat.le_of_ble_eq_true rfl) (k_resV (ci := 7) (av := []) (rest := []) (fs_115 hF7) (by decide) rfl rfl q1709 q1710 q1711 q1712 mhX8_thrown mnX8_thrown dL_law_611) (fun y14 h15 g16 H => ?_)
  refine V_iload dL_law_614 1 rfl ?_
  refine V_icmp_eq (tgt := 621) dL_law_616 (by decide) (fun c17 => ?_) (fun c17 => ?_)
  · have H := H.1 c17
    refine V_iload dL_law_621 1 rfl ?_
    refine V_if_ne (tgt := 645) dL_law_623 (by decide) (fun c18 => ?_) (fun c18 => ?_)
    · have H := H.1 c18
      refine V.sub [2, 3, 4, 5, 6] rfl ?_
      exact bL_law_645 hF7 x4 H
    · have H := H.2 c18
      refine V_aload_n dL_law_626 rfl 5 rfl ?_
      refine V_iconst (v := 0) dL_law_627 (by decide) ?_
      refine H_lald (fs_159 hF7) (by unfold vp_in; decide) dL_law_628 ?_
      refine V_iload dL_law_629 0 rfl ?_
      refine V_if_eq (tgt := 638) dL_law_631 (by decide) (fun c19 => ?_) (fun c19 => ?_)
      · have H := H.1 c19
        refine V_lconst (v := 0) dL_law_638 (by decide) ?_
        refine V.sub [2, 3, 4, 5, 6] rfl ?_
        exact bL_law_639 hF7 x4 (g16 159 (ix 0)) 0 H
      · have H := H.2 c19
        refine V_lconst (v := 1) dL_law_634 (by decide) ?_
        refine V_goto (tgt := 639) dL_law_635 (by decide) ?_
        refine V.sub [2, 3, 4, 5, 6] rfl ?_
        exact bL_law_639 hF7 x4 (g16 159 (ix 0)) 1 H
  · have H := H.2 c17
    refine V_iconst (v := 0) dL_law_619 (by decide) ?_
    exact G_zret hF7 rfl isB0 dL_law_620 H
abbrev JL_law_570 (D : DE) (f : Nat) (Q : Int32 → Frm → HI → HL → Prop) (T : Nat → Frm → HI → HL → Prop) (F : Frm) (h : HI) (g : HL) (x4 : Int32) : Prop := JL_law_1107 D f Q T F h g x4
theorem bL_law_570 {D : DE} {f : Nat} {Q : Int32 → Frm → HI → HL → Prop} {T : Nat → Frm → HI → HL → Prop} {F : Frm} {h : HI} {g : HL} (hF : k_Fix F) (x4 : Int32) (H : JL_law_570 D f Q T F h g x4) : V D mL_law (f + 1) (gi Q T) 570 [(0, .ref (dO D 7)), (1, .ref (ad D 0)), (2, .ref (ad D 115)), (3, .ref (ad D 159)), (4, .int x4)] [] (F, h, g) := by
  refine V_goto (tgt := 1107) dL_law_570 (by decide) ?_
  exact bL_law_1107 hF x4 H
abbrev JL_law_493 (D : DE) (f : Nat) (Q : Int32 → Frm → HI → HL → Prop) (T : Nat → Frm → HI → HL → Prop) (F : Frm) (h : HI) (g : HL) (x4 : Int32) : Prop := vp_in (x4 + 1) (dL D) ∧ vp_in (x4 + 2) (dL D) ∧ vp_in (x4 + 3) (dL D) ∧ Gi D f mX0_asks [.ref (ad D 0), .int (dX D (ix (x4 + 1))), .int (dX D (ix (x4 + 2))), .int (dX D (ix (x4 + 3))), .ref (ad D 159)] F h g (fun y4 F7 h5 g6 => vp_in (x4 + 1) (dL D) ∧ vp_in (x4 + 2) (dL D) ∧ vp_in (x4 + 3) (dL D) ∧ Si D f mX8_asks_2 [.ref (ad D 115), .int (dX D (ix (x4 + 1))), .int (dX D (ix (x4 + 2))), .int (dX D (ix (x4 + 3)))] F7 h5 g6 (fun y13 h14 g15 => Si D f mX8_thrown [.ref (ad D 115)] F7 h14 g15 (fun y16 h17 g18 => ((y16 = y4 → ((¬ y4 = 0 → JL_law_570 D f Q T F7 h17 g18 x4) ∧ (y4 = 0 → (((lg_cmp (g18 159 (ix 0)) y13.toInt64) = 0 → JL_law_570 D f Q T F7 h17 g18 x4) ∧ (¬ (lg_cmp (g18 159 (ix 0)) y13.toInt64) = 0 → Q 0 F7 h17 g18))))) ∧ (¬ y16 = y4 → Q 0 F7 h17 g18))))) T
theorem bL_law_493 {D : DE} {f : Nat} {Q : Int32 → Frm → HI → HL → Prop} {T : Nat → Frm → HI → HL → Prop} {F : Frm} {h : HI} {g : HL} (hF : k_Fix F) (x4 : Int32) (H : JL_law_493 D f Q T F h g x4) : V D mL_law (f + 1) (gi Q T) 493 [(0, .ref (dO D 7)), (1, .ref (ad D 0)), (2, .ref (ad D 115)), (3, .ref (ad D 159)), (4, .int x4)] [] (F, h, g) := by
  refine V_aload_n dL_law_493 rfl 1 rfl ?_
  refine V_aload_n dL_law_494 rfl 0 rfl ?_
  refine V_iload dL_law_495 4 rfl ?_
  refine V_iconst (v := 1) dL_law_497 (by decide) ?_
  refine V_iadd dL_law_498 ?_
  obtain ⟨i1, H⟩ := H
  refine V_ti (v := .int (dX D (ix (x4 + 1)))) (fun _ hE => k_scr hE) i1 rfl dL_law_499 ?_
  refine V_aload_n dL_law_500 rfl 0 rfl ?_
  refine V_iload dL_law_501 4 rfl ?_
  refine V_iconst (v := 2) dL_law_503 (by decide) ?_
  refine V_iadd dL_law_504 ?_
  obtain ⟨i2, H⟩ := H
  refine V_ti (v := .int (dX D (ix (x4 + 2)))) (fun _ hE => k_scr hE) i2 rfl dL_law_505 ?_
  refine V_aload_n dL_law_506 rfl 0 rfl ?_
  refine V_iload dL_law_507 4 rfl ?_
  refine V_iconst (v := 3) dL_law_509 (by decide) ?_
  refine V_iadd dL_law_510 ?_
  obtain ⟨i3, H⟩ := H
  refine V_ti (v := .int (dX D (ix (x4 + 3)))) (fun _ hE => k_scr hE) i3 rfl dL_law_511 ?_
  refine V_aload_n dL_law_512 rfl 3 rfl ?_
  refine G_calli (av := [.ref (ad D 0), .int (dX D (ix (x4 + 1))), .int (dX D (ix (x4 + 2))), .int (dX D (ix (x4 + 3))), .ref (ad D 159)]) (rest := []) H mqX0_asks q80 (by decide) (Nat.le_of_ble_eq_true rfl) (k_resS (av := [.ref (ad D 0), .int (dX D (ix (x4 + 1))), .int (dX D (ix (x4 + 2))), .int (dX D (ix (x4 + 3))), .ref (ad D 159)]) (rest := []) (M1 := mX0_asks) rfl q1276 q1277 q80 mqX0_asks (fun _ _ h => mW_namedW h) mhX0_asks mnX0_asks dL_law_513) (fun y4 F7 h5 g6 hF8 H => ?_) (fun a e F1 h1 g1 hF1 ha ht => GT_i hF1 rfl ha ht)
  refine V_istore (l1 := [(5, .int y4), (0, .ref (dO D 7)), (1, .ref (ad D 0)), (2, .ref (ad D 115)), (3, .ref (ad D 159)), (4, .int x4)]) dL_law_516 (by decide) rfl ?_
  refine V_aload_n dL_law_518 rfl 3 rfl ?_
  refine V_aload_n dL_law_519 rfl 1 rfl ?_
  refine V_iload dL_law_520 5 rfl ?_
  refine V_iconst (v := 1) dL_law_522 (by decide) ?_
  refine V_iadd dL_law_523 ?_
  obtain ⟨i10, H⟩ := H
  refine V_ti (v := .int (dX D (ix (x4 + 1)))) (fun _ hE => k_scr hE) i10 rfl dL_law_524 ?_
  refine V_aload_n dL_law_525 rfl 1 rfl ?_
  refine V_iload dL_law_526 5 rfl ?_
  refine V_iconst (v := 2) dL_law_528 (by decide) ?_
  refine V_iadd dL_law_529 ?_
  obtain ⟨i11, H⟩ := H
  refine V_ti (v := .int (dX D (ix (x4 + 2)))) (fun _ hE => k_scr hE) i11 rfl dL_law_530 ?_
  refine V_aload_n dL_law_531 rfl 1 rfl ?_
  refine V_iload dL_law_532 5 rfl ?_
  refine V_iconst (v := 3) dL_law_534 (by decide) ?_
  refine V_iadd dL_law_535 ?_
  obtain ⟨i12, H⟩ := H
  refine V_ti (v := .int (dX D (ix (x4 + 3)))) (fun _ hE => k_scr hE) i12 rfl dL_law_536 ?_
  refine H_calli (av := [.ref (ad D 115), .int (dX D (ix (x4 + 1))), .int (dX D (ix (x4 + 2))), .int (dX D (ix (x4 + 3)))]) (rest := []) H mqX8_asks_2 q88 (by decide) (Nat.le_of_ble_eq_true rfl) (k_resV (ci := 7) (av := [.int (dX D (ix (x4 + 1))), .int (dX D (ix (x4 + 2))), .int (dX D (ix (x4 + 3)))]) (rest := []) (fs_115 hF8) (by decide) rfl rfl q1924 q1925 q1926 q1927 mhX8_asks_2 mnX8_asks_2 dL_law_537) (fun y13 h14 g15 H => ?_)
  refine V_istore (l1 := [(6, .int y13), (5, .int y4), (0, .ref (dO D 7)), (1, .ref (ad D 0)), (2, .ref (ad D 115)), (3, .ref (ad D 159)), (4, .int x4)]) dL_law_540 (by decide) rfl ?_
  refine V_aload_n dL_law_542 rfl 4 rfl ?_
  refine H_calli (av := [.ref (ad D 115)]) (rest := []) H mqX8_thrown q88 (by decide) (Nat.le_of_ble_eq_true rfl) (k_resV (ci := 7) (av := []) (rest := []) (fs_115 hF8) (by decide) rfl rfl q1709 q1710 q1711 q1712 mhX8_thrown mnX8_thrown dL_law_543) (fun y16 h17 g18 H => ?_)
  refine V_iload dL_law_546 1 rfl ?_
  refine V_icmp_eq (tgt := 553) dL_law_548 (by decide) (fun c19 => ?_) (fun c19 => ?_)
  · have H := H.1 c19
    refine V_iload dL_law_553 1 rfl ?_
    refine V_if_ne (tgt := 570) dL_law_555 (by decide) (fun c20 => ?_) (fun c20 => ?_)
    · have H := H.1 c20
      refine V.sub [2, 3, 4, 5, 6] rfl ?_
      exact bL_law_570 hF8 x4 H
    · have H := H.2 c20
      refine V_aload_n dL_law_558 rfl 5 rfl ?_
      refine V_iconst (v := 0) dL_law_559 (by decide) ?_
      refine H_lald (fs_159 hF8) (by unfold vp_in; decide) dL_law_560 ?_
      refine V_iload dL_law_561 0 rfl ?_
      refine V_i2l dL_law_563 ?_
      refine V_lcmp dL_law_564 ?_
      refine V_if_eq (tgt := 570) dL_law_565 (by decide) (fun c21 => ?_) (fun c21 => ?_)
      · have H := H.1 c21
        refine V.sub [2, 3, 4, 5, 6] rfl ?_
        exact bL_law_570 hF8 x4 H
      · have H := H.2 c21
        refine V_iconst (v := 0) dL_law_568 (by decide) ?_
        exact G_zret hF8 rfl isB0 dL_law_569 H
  · have H := H.2 c19
    refine V_iconst (v := 0) dL_law_551 (by decide) ?_
    exact G_zret hF8 rfl isB0 dL_law_552 H
abbrev JL_law_490 (D : DE) (f : Nat) (Q : Int32 → Frm → HI → HL → Prop) (T : Nat → Frm → HI → HL → Prop) (F : Frm) (h : HI) (g : HL) (x4 : Int32) : Prop := JL_law_1107 D f Q T F h g x4
theorem bL_law_490 {D : DE} {f : Nat} {Q : Int32 → Frm → HI → HL → Prop} {T : Nat → Frm → HI → HL → Prop} {F : Frm} {h : HI} {g : HL} (hF : k_Fix F) (x4 : Int32) (H : JL_law_490 D f Q T F h g x4) : V D mL_law (f + 1) (gi Q T) 490 [(0, .ref (dO D 7)), (1, .ref (ad D 0)), (2, .ref (ad D 115)), (3, .ref (ad D 159)), (4, .int x4)] [] (F, h, g) := by
  refine V_goto (tgt := 1107) dL_law_490 (by decide) ?_
  exact bL_law_1107 hF x4 H
abbrev JL_law_484 (D : DE) (f : Nat) (Q : Int32 → Frm → HI → HL → Prop) (T : Nat → Frm → HI → HL → Prop) (F : Frm) (h : HI) (g : HL) (x4 : Int32) (s0 : Int64) (s1 : Int64) : Prop := (((lg_cmp s0 s1) = 0 → JL_law_490 D f Q T F h g x4) ∧ (¬ (lg_cmp s0 s1) = 0 → Q 0 F h g))
theorem bL_law_484 {D : DE} {f : Nat} {Q : Int32 → Frm → HI → HL → Prop} {T : Nat → Frm → HI → HL → Prop} {F : Frm} {h : HI} {g : HL} (hF : k_Fix F) (x4 : Int32) (s0 : Int64) (s1 : Int64) (H : JL_law_484 D f Q T F h g x4 s0 s1) : V D mL_law (f + 1) (gi Q T) 484 [(0, .ref (dO D 7)), (1, .ref (ad D 0)), (2, .ref (ad D 115)), (3, .ref (ad D 159)), (4, .int x4)] [.long s1, .long s0] (F, h, g) := by
  refine V_lcmp dL_law_484 ?_
  refine V_if_eq (tgt := 490) dL_law_485 (by decide) (fun c1 => ?_) (fun c1 => ?_)
  · have H := H.1 c1
    exact bL_law_490 hF x4 H
  · have H := H.2 c1
    refine V_iconst (v := 0) dL_law_488 (by decide) ?_
    exact G_zret hF rfl isB0 dL_law_489 H
abbrev JL_law_418 (D : DE) (f : Nat) (Q : Int32 → Frm → HI → HL → Prop) (T : Nat → Frm → HI → HL → Prop) (F : Frm) (h : HI) (g : HL) (x4 : Int32) : Prop := vp_in (x4 + 1) (dL D) ∧ vp_in (x4 + 2) (dL D) ∧ Gi D f mX0_dead [.ref (ad D 0), .int (dX D (ix (x4 + 1))), .int (dX D (ix (x4 + 2))), .ref (ad D 159)] F h g (fun y3 F6 h4 g5 => vp_in (x4 + 1) (dL D) ∧ vp_in (x4 + 2) (dL D) ∧ Si D f mX8_dead [.ref (ad D 115), .int (dX D (ix (x4 + 1))), .int (dX D (ix (x4 + 2)))] F6 h4 g5 (fun y11 h12 g13 => Si D f mX8_thrown [.ref (ad D 115)] F6 h12 g13 (fun y14 h15 g16 => ((y14 = y3 → ((¬ y3 = 0 → JL_law_490 D f Q T F6 h15 g16 x4) ∧ (y3 = 0 → ((y11 = 0 → JL_law_484 D f Q T F6 h15 g16 x4 (g16 159 (ix 0)) 0) ∧ (¬ y11 = 0 → JL_law_484 D f Q T F6 h15 g16 x4 (g16 159 (ix 0)) 1))))) ∧ (¬ y14 = y3 → Q 0 F6 h15 g16))))) T
theorem bL_law_418 {D : DE} {f : Nat} {Q : Int32 → Frm → HI → HL → Prop} {T : Nat → Frm → HI → HL → Prop} {F : Frm} {h : HI} {g : HL} (hF : k_Fix F) (x4 : Int32) (H : JL_law_418 D f Q T F h g x4) : V D mL_law (f + 1) (gi Q T) 418 [(0, .ref (dO D 7)), (1, .ref (ad D 0)), (2, .ref (ad D 115)), (3, .ref (ad D 159)), (4, .int x4)] [] (F, h, g) := by
  refine V_aload_n dL_law_418 rfl 1 rfl ?_
  refine V_aload_n dL_law_419 rfl 0 rfl ?_
  refine V_iload dL_law_420 4 rfl ?_
  refine V_iconst (v := 1) dL_law_422 (by decide) ?_
  refine V_iadd dL_law_423 ?_
  obtain ⟨i1, H⟩ := H
  refine V_ti (v := .int (dX D (ix (x4 + 1)))) (fun _ hE => k_scr hE) i1 rfl dL_law_424 ?_
  refine V_aload_n dL_law_425 rfl 0 rfl ?_
  refine V_iload dL_law_426 4 rfl ?_
  refine V_iconst (v := 2) dL_law_428 (by decide) ?_
  refine V_iadd dL_law_429 ?_
  obtain ⟨i2, H⟩ := H
  refine V_ti (v := .int (dX D (ix (x4 + 2)))) (fun _ hE => k_scr hE) i2 rfl dL_law_430 ?_
  refine V_aload_n dL_law_431 rfl 3 rfl ?_
  refine G_calli (av := [.ref (ad D 0), .int (dX D (ix (x4 + 1))), .int (dX D (ix (x4 + 2))), .ref (ad D 159)]) (rest := []) H mqX0_dead q80 (by decide) (Nat.le_of_ble_eq_true rfl) (k_resS (av := [.ref (ad D 0), .int (dX D (ix (x4 + 1))), .int (dX D (ix (x4 + 2))), .ref (ad D 159)]) (rest := []) (M1 := mX0_dead) rfl q1265 q1266 q80 mqX0_dead (fun _ _ h => mW_namedW h) mhX0_dead mnX0_dead dL_law_432) (fun y3 F6 h4 g5 hF7 H => ?_) (fun a e F1 h1 g1 hF1 ha ht => GT_i hF1 rfl ha ht)
  refine V_istore (l1 := [(5, .int y3), (0, .ref (dO D 7)), (1, .ref (ad D 0)), (2, .ref (ad D 115)), (3, .ref (ad D 159)), (4, .int x4)]) dL_law_435 (by decide) rfl ?_
  refine V_aload_n dL_law_437 rfl 3 rfl ?_
  refine V_aload_n dL_law_438 rfl 1 rfl ?_
  refine V_iload dL_law_439 5 rfl ?_
  refine V_iconst (v := 1) dL_law_441 (by decide) ?_
  refine V_iadd dL_law_442 ?_
  obtain ⟨i9, H⟩ := H
  refine V_ti (v := .int (dX D (ix (x4 + 1)))) (fun _ hE => k_scr hE) i9 rfl dL_law_443 ?_
  refine V_aload_n dL_law_444 rfl 1 rfl ?_
  refine V_iload dL_law_445 5 rfl ?_
  refine V_iconst (v := 2) dL_law_447 (by decide) ?_
  refine V_iadd dL_law_448 ?_
  obtain ⟨i10, H⟩ := H
  refine V_ti (v := .int (dX D (ix (x4 + 2)))) (fun _ hE => k_scr hE) i10 rfl dL_law_449 ?_
  refine H_calli (av := [.ref (ad D 115), .int (dX D (ix (x4 + 1))), .int (dX D (ix (x4 + 2)))]) (rest := []) H mqX8_dead q88 (by decide) (Nat.le_of_ble_eq_true rfl) (k_resV (ci := 7) (av := [.int (dX D (ix (x4 + 1))), .int (dX D (ix (x4 + 2)))]) (rest := []) (fs_115 hF7) (by decide) rfl rfl q1916 q1917 q1918 q1919 mhX8_dead mnX8_dead dL_law_450) (fun y11 h12 g13 H => ?_)
  refine V_istore (l1 := [(6, .int y11), (5, .int y3), (0, .ref (dO D 7)), (1, .ref (ad D 0)), (2, .ref (ad D 115)), (3, .ref (ad D 159)), (4, .int x4)]) dL_law_453 (by decide) rfl ?_
  refine V_aload_n dL_law_455 rfl 4 rfl ?_
  refine H_calli (av := [.ref (ad D 115)]) (rest := []) H mqX8_thrown q88 (by decide) (Nat.le_of_ble_eq_true rfl) (k_resV (ci := 7) (av := []) (rest := []) (fs_115 hF7) (by decide) rfl rfl q1709 q1710 q1711 q1712 mhX8_thrown mnX8_thrown dL_law_456) (fun y14 h15 g16 H => ?_)
  refine V_iload dL_law_459 1 rfl ?_
  refine V_icmp_eq (tgt := 466) dL_law_461 (by decide) (fun c17 => ?_) (fun c17 => ?_)
  · have H := H.1 c17
    refine V_iload dL_law_466 1 rfl ?_
    refine V_if_ne (tgt := 490) dL_law_468 (by decide) (fun c18 => ?_) (fun c18 => ?_)
    · have H := H.1 c18
      refine V.sub [2, 3, 4, 5, 6] rfl ?_
      exact bL_law_490 hF7 x4 H
    · have H := H.2 c18
      refine V_aload_n dL_law_471 rfl 5 rfl ?_
      refine V_iconst (v := 0) dL_law_472 (by decide) ?_
      refine H_lald (fs_159 hF7) (by unfold vp_in; decide) dL_law_473 ?_
      refine V_iload dL_law_474 0 rfl ?_
      refine V_if_eq (tgt := 483) dL_law_476 (by decide) (fun c19 => ?_) (fun c19 => ?_)
      · have H := H.1 c19
        refine V_lconst (v := 0) dL_law_483 (by decide) ?_
        refine V.sub [2, 3, 4, 5, 6] rfl ?_
        exact bL_law_484 hF7 x4 (g16 159 (ix 0)) 0 H
      · have H := H.2 c19
        refine V_lconst (v := 1) dL_law_479 (by decide) ?_
        refine V_goto (tgt := 484) dL_law_480 (by decide) ?_
        refine V.sub [2, 3, 4, 5, 6] rfl ?_
        exact bL_law_484 hF7 x4 (g16 159 (ix 0)) 1 H
  · have H := H.2 c17
    refine V_iconst (v := 0) dL_law_464 (by decide) ?_
    exact G_zret hF7 rfl isB0 dL_law_465 H
abbrev JL_law_415 (D : DE) (f : Nat) (Q : Int32 → Frm → HI → HL → Prop) (T : Nat → Frm → HI → HL → Prop) (F : Frm) (h : HI) (g : HL) (x4 : Int32) : Prop := JL_law_1107 D f Q T F h g x4
theorem bL_law_415 {D : DE} {f : Nat} {Q : Int32 → Frm → HI → HL → Prop} {T : Nat → Frm → HI → HL → Prop} {F : Frm} {h : HI} {g : HL} (hF : k_Fix F) (x4 : Int32) (H : JL_law_415 D f Q T F h g x4) : V D mL_law (f + 1) (gi Q T) 415 [(0, .ref (dO D 7)), (1, .ref (ad D 0)), (2, .ref (ad D 115)), (3, .ref (ad D 159)), (4, .int x4)] [] (F, h, g) := by
  refine V_goto (tgt := 1107) dL_law_415 (by decide) ?_
  exact bL_law_1107 hF x4 H
abbrev JL_law_374 (D : DE) (f : Nat) (Q : Int32 → Frm → HI → HL → Prop) (T : Nat → Frm → HI → HL → Prop) (F : Frm) (h : HI) (g : HL) (x4 : Int32) : Prop := Gi D f mX0_rounds [.ref (ad D 0), .ref (ad D 159)] F h g (fun y1 F4 h2 g3 => Si D f mX8_rounds [.ref (ad D 115)] F4 h2 g3 (fun y7 h8 g9 => Si D f mX8_thrown [.ref (ad D 115)] F4 h8 g9 (fun y10 h11 g12 => ((y10 = y1 → ((¬ y1 = 0 → JL_law_415 D f Q T F4 h11 g12 x4) ∧ (y1 = 0 → (((lg_cmp (g12 159 (ix 0)) y7.toInt64) = 0 → JL_law_415 D f Q T F4 h11 g12 x4) ∧ (¬ (lg_cmp (g12 159 (ix 0)) y7.toInt64) = 0 → Q 0 F4 h11 g12))))) ∧ (¬ y10 = y1 → Q 0 F4 h11 g12))))) T
theorem bL_law_374 {D : DE} {f : Nat} {Q : Int32 → Frm → HI → HL → Prop} {T : Nat → Frm → HI → HL → Prop} {F : Frm} {h : HI} {g : HL} (hF : k_Fix F) (x4 : Int32) (H : JL_law_374 D f Q T F h g x4) : V D mL_law (f + 1) (gi Q T) 374 [(0, .ref (dO D 7)), (1, .ref (ad D 0)), (2, .ref (ad D 115)), (3, .ref (ad D 159)), (4, .int x4)] [] (F, h, g) := by
  refine V_aload_n dL_law_374 rfl 1 rfl ?_
  refine V_aload_n dL_law_375 rfl 3 rfl ?_
  refine G_calli (av := [.ref (ad D 0), .ref (ad D 159)]) (rest := []) H mqX0_rounds q80 (by decide) (Nat.le_of_ble_eq_true rfl) (k_resS (av := [.ref (ad D 0), .ref (ad D 159)]) (rest := []) (M1 := mX0_rounds) rfl q1166 q1167 q80 mqX0_rounds (fun _ _ h => mW_namedW h) mhX0_rounds mnX0_rounds dL_law_376) (fun y1 F4 h2 g3 hF5 H => ?_) (fun a e F1 h1 g1 hF1 ha ht => GT_i hF1 rfl ha ht)
  refine V_istore (l1 := [(5, .int y1), (0, .ref (dO D 7)), (1, .ref (ad D 0)), (2, .ref (ad D 115)), (3, .ref (ad D 159)), (4, .int x4)]) dL_law_379 (by decide) rfl ?_
  refine V_aload_n dL_law_381 rfl 3 rfl ?_
  refine H_calli (av := [.ref (ad D 115)]) (rest := []) H mqX8_rounds q88 (by decide) (Nat.le_of_ble_eq_true rfl) (k_resV (ci := 7) (av := []) (rest := []) (fs_115 hF5) (by decide) rfl rfl q1879 q1880 q1881 q1882 mhX8_rounds mnX8_rounds dL_law_382) (fun y7 h8 g9 H => ?_)
  refine V_istore (l1 := [(6, .int y7), (5, .int y1), (0, .ref (dO D 7)), (1, .ref (ad D 0)), (2, .ref (ad D 115)), (3, .ref (ad D 159)), (4, .int x4)]) dL_law_385 (by decide) rfl ?_
  refine V_aload_n dL_law_387 rfl 4 rfl ?_
  refine H_calli (av := [.ref (ad D 115)]) (rest := []) H mqX8_thrown q88 (by decide) (Nat.le_of_ble_eq_true rfl) (k_resV (ci := 7) (av := []) (rest := []) (fs_115 hF5) (by decide) rfl rfl q1709 q1710 q1711 q1712 mhX8_thrown mnX8_thrown dL_law_388) (fun y10 h11 g12 H => ?_)
  refine V_iload dL_law_391 1 rfl ?_
  refine V_icmp_eq (tgt := 398) dL_law_393 (by decide) (fun c13 => ?_) (fun c13 => ?_)
  · have H := H.1 c13
    refine V_iload dL_law_398 1 rfl ?_
    refine V_if_ne (tgt := 415) dL_law_400 (by decide) (fun c14 => ?_) (fun c14 => ?_)
    · have H := H.1 c14
      refine V.sub [2, 3, 4, 5, 6] rfl ?_
      exact bL_law_415 hF5 x4 H
    · have H := H.2 c14
      refine V_aload_n dL_law_403 rfl 5 rfl ?_
      refine V_iconst (v := 0) dL_law_404 (by decide) ?_
      refine H_lald (fs_159 hF5) (by unfold vp_in; decide) dL_law_405 ?_
      refine V_iload dL_law_406 0 rfl ?_
      refine V_i2l dL_law_408 ?_
      refine V_lcmp dL_law_409 ?_
      refine V_if_eq (tgt := 415) dL_law_410 (by decide) (fun c15 => ?_) (fun c15 => ?_)
      · have H := H.1 c15
        refine V.sub [2, 3, 4, 5, 6] rfl ?_
        exact bL_law_415 hF5 x4 H
      · have H := H.2 c15
        refine V_iconst (v := 0) dL_law_413 (by decide) ?_
        exact G_zret hF5 rfl isB0 dL_law_414 H
  · have H := H.2 c13
    refine V_iconst (v := 0) dL_law_396 (by decide) ?_
    exact G_zret hF5 rfl isB0 dL_law_397 H
abbrev JL_law_371 (D : DE) (f : Nat) (Q : Int32 → Frm → HI → HL → Prop) (T : Nat → Frm → HI → HL → Prop) (F : Frm) (h : HI) (g : HL) (x4 : Int32) : Prop := JL_law_1107 D f Q T F h g x4
theorem bL_law_371 {D : DE} {f : Nat} {Q : Int32 → Frm → HI → HL → Prop} {T : Nat → Frm → HI → HL → Prop} {F : Frm} {h : HI} {g : HL} (hF : k_Fix F) (x4 : Int32) (H : JL_law_371 D f Q T F h g x4) : V D mL_law (f + 1) (gi Q T) 371 [(0, .ref (dO D 7)), (1, .ref (ad D 0)), (2, .ref (ad D 115)), (3, .ref (ad D 159)), (4, .int x4)] [] (F, h, g) := by
  refine V_goto (tgt := 1107) dL_law_371 (by decide) ?_
  exact bL_law_1107 hF x4 H
abbrev JL_law_306 (D : DE) (f : Nat) (Q : Int32 → Frm → HI → HL → Prop) (T : Nat → Frm → HI → HL → Prop) (F : Frm) (h : HI) (g : HL) (x4 : Int32) : Prop := vp_in (x4 + 1) (dL D) ∧ vp_in (x4 + 2) (dL D) ∧ Gi D f mX0_function [.ref (ad D 0), .int (dX D (ix (x4 + 1))), .int (dX D (ix (x4 + 2))), .ref (ad D 159)] F h g (fun y3 F6 h4 g5 => vp_in (x4 + 1) (dL D) ∧ vp_in (x4 + 2) (dL D) ∧ Si D f mX8_function [.ref (ad D 115), .int (dX D (ix (x4 + 1))), .int (dX D (ix (x4 + 2)))] F6 h4 g5 (fun y11 h12 g13 => Si D f mX8_thrown [.ref (ad D 115)] F6 h12 g13 (fun y14 h15 g16 => ((y14 = y3 → ((¬ y3 = 0 → JL_law_371 D f Q T F6 h15 g16 x4) ∧ (y3 = 0 → (((lg_cmp (g16 159 (ix 0)) y11.toInt64) = 0 → JL_law_371 D f Q T F6 h15 g16 x4) ∧ (¬ (lg_cmp (g16 159 (ix 0)) y11.toInt64) = 0 → Q 0 F6 h15 g16))))) ∧ (¬ y14 = y3 → Q 0 F6 h15 g16))))) T
theorem bL_law_306 {D : DE} {f : Nat} {Q : Int32 → Frm → HI → HL → Prop} {T : Nat → Frm → HI → HL → Prop} {F : Frm} {h : HI} {g : HL} (hF : k_Fix F) (x4 : Int32) (H : JL_law_306 D f Q T F h g x4) : V D mL_law (f + 1) (gi Q T) 306 [(0, .ref (dO D 7)), (1, .ref (ad D 0)), (2, .ref (ad D 115)), (3, .ref (ad D 159)), (4, .int x4)] [] (F, h, g) := by
  refine V_aload_n dL_law_306 rfl 1 rfl ?_
  refine V_aload_n dL_law_307 rfl 0 rfl ?_
  refine V_iload dL_law_308 4 rfl ?_
  refine V_iconst (v := 1) dL_law_310 (by decide) ?_
  refine V_iadd dL_law_311 ?_
  obtain ⟨i1, H⟩ := H
  refine V_ti (v := .int (dX D (ix (x4 + 1)))) (fun _ hE => k_scr hE) i1 rfl dL_law_312 ?_
  refine V_aload_n dL_law_313 rfl 0 rfl ?_
  refine V_iload dL_law_314 4 rfl ?_
  refine V_iconst (v := 2) dL_law_316 (by decide) ?_
  refine V_iadd dL_law_317 ?_
  obtain ⟨i2, H⟩ := H
  refine V_ti (v := .int (dX D (ix (x4 + 2)))) (fun _ hE => k_scr hE) i2 rfl dL_law_318 ?_
  refine V_aload_n dL_law_319 rfl 3 rfl ?_
  refine G_calli (av := [.ref (ad D 0), .int (dX D (ix (x4 + 1))), .int (dX D (ix (x4 + 2))), .ref (ad D 159)]) (rest := []) H mqX0_function q80 (by decide) (Nat.le_of_ble_eq_true rfl) (k_resS (av := [.ref (ad D 0), .int (dX D (ix (x4 + 1))), .int (dX D (ix (x4 + 2))), .ref (ad D 159)]) (rest := []) (M1 := mX0_function) rfl q1108 q1109 q80 mqX0_function (fun _ _ h => mW_namedW h) mhX0_function mnX0_function dL_law_320) (fun y3 F6 h4 g5 hF7 H => ?_) (fun a e F1 h1 g1 hF1 ha ht => GT_i hF1 rfl ha ht)
  refine V_istore (l1 := [(5, .int y3), (0, .ref (dO D 7)), (1, .ref (ad D 0)), (2, .ref (ad D 115)), (3, .ref (ad D 159)), (4, .int x4)]) dL_law_323 (by decide) rfl ?_
  refine V_aload_n dL_law_325 rfl 3 rfl ?_
  refine V_aload_n dL_law_326 rfl 1 rfl ?_
  refine V_iload dL_law_327 5 rfl ?_
  refine V_iconst (v := 1) dL_law_329 (by decide) ?_
  refine V_iadd dL_law_330 ?_
  obtain ⟨i9, H⟩ := H
  refine V_ti (v := .int (dX D (ix (x4 + 1)))) (fun _ hE => k_scr hE) i9 rfl dL_law_331 ?_
  refine V_aload_n dL_law_332 rfl 1 rfl ?_
  refine V_iload dL_law_333 5 rfl ?_
  refine V_iconst (v := 2) dL_law_335 (by decide) ?_
  refine V_iadd dL_law_336 ?_
  obtain ⟨i10, H⟩ := H
  refine V_ti (v := .int (dX D (ix (x4 + 2)))) (fun _ hE => k_scr hE) i10 rfl dL_law_337 ?_
  refine H_calli (av := [.ref (ad D 115), .int (dX D (ix (x4 + 1))), .int (dX D (ix (x4 + 2)))]) (rest := []) H mqX8_function q88 (by decide) (Nat.le_of_ble_eq_true rfl) (k_resV (ci := 7) (av := [.int (dX D (ix (x4 + 1))), .int (dX D (ix (x4 + 2)))]) (rest := []) (fs_115 hF7) (by decide) rfl rfl q1868 q1869 q1870 q1871 mhX8_function mnX8_function dL_law_338) (fun y11 h12 g13 H => ?_)
  refine V_istore (l1 := [(6, .int y11), (5, .int y3), (0, .ref (dO D 7)), (1, .ref (ad D 0)), (2, .ref (ad D 115)), (3, .ref (ad D 159)), (4, .int x4)]) dL_law_341 (by decide) rfl ?_
  refine V_aload_n dL_law_343 rfl 4 rfl ?_
  refine H_calli (av := [.ref (ad D 115)]) (rest := []) H mqX8_thrown q88 (by decide) (Nat.le_of_ble_eq_true rfl) (k_resV (ci := 7) (av := []) (rest := []) (fs_115 hF7) (by decide) rfl rfl q1709 q1710 q1711 q1712 mhX8_thrown mnX8_thrown dL_law_344) (fun y14 h15 g16 H => ?_)
  refine V_iload dL_law_347 1 rfl ?_
  refine V_icmp_eq (tgt := 354) dL_law_349 (by decide) (fun c17 => ?_) (fun c17 => ?_)
  · have H := H.1 c17
    refine V_iload dL_law_354 1 rfl ?_
    refine V_if_ne (tgt := 371) dL_law_356 (by decide) (fun c18 => ?_) (fun c18 => ?_)
    · have H := H.1 c18
      refine V.sub [2, 3, 4, 5, 6] rfl ?_
      exact bL_law_371 hF7 x4 H
    · have H := H.2 c18
      refine V_aload_n dL_law_359 rfl 5 rfl ?_
      refine V_iconst (v := 0) dL_law_360 (by decide) ?_
      refine H_lald (fs_159 hF7) (by unfold vp_in; decide) dL_law_361 ?_
      refine V_iload dL_law_362 0 rfl ?_
      refine V_i2l dL_law_364 ?_
      refine V_lcmp dL_law_365 ?_
      refine V_if_eq (tgt := 371) dL_law_366 (by decide) (fun c19 => ?_) (fun c19 => ?_)
      · have H := H.1 c19
        refine V.sub [2, 3, 4, 5, 6] rfl ?_
        exact bL_law_371 hF7 x4 H
      · have H := H.2 c19
        refine V_iconst (v := 0) dL_law_369 (by decide) ?_
        exact G_zret hF7 rfl isB0 dL_law_370 H
  · have H := H.2 c17
    refine V_iconst (v := 0) dL_law_352 (by decide) ?_
    exact G_zret hF7 rfl isB0 dL_law_353 H
abbrev JL_law_293 (D : DE) (f : Nat) (Q : Int32 → Frm → HI → HL → Prop) (T : Nat → Frm → HI → HL → Prop) (F : Frm) (h : HI) (g : HL) (x4 : Int32) : Prop := Si D f mX1_place [.ref (ad D 0)] F h g (fun y1 h2 g3 => Si D f mX8_place [.ref (ad D 115)] F h2 g3 (fun y4 h5 g6 => ((y1 = y4 → JL_law_1107 D f Q T F h5 g6 x4) ∧ (¬ y1 = y4 → Q 0 F h5 g6))))
theorem bL_law_293 {D : DE} {f : Nat} {Q : Int32 → Frm → HI → HL → Prop} {T : Nat → Frm → HI → HL → Prop} {F : Frm} {h : HI} {g : HL} (hF : k_Fix F) (x4 : Int32) (H : JL_law_293 D f Q T F h g x4) : V D mL_law (f + 1) (gi Q T) 293 [(0, .ref (dO D 7)), (1, .ref (ad D 0)), (2, .ref (ad D 115)), (3, .ref (ad D 159)), (4, .int x4)] [] (F, h, g) := by
  refine V_aload_n dL_law_293 rfl 1 rfl ?_
  refine H_calli (av := [.ref (ad D 0)]) (rest := []) H mqX1_place q81 (by decide) (Nat.le_of_ble_eq_true rfl) (k_resV (ci := 0) (av := []) (rest := []) (fs_0 hF) (by decide) rfl rfl q1053 q1054 q1055 q1056 mhX1_place mnX1_place dL_law_294) (fun y1 h2 g3 H => ?_)
  refine V_aload_n dL_law_297 rfl 2 rfl ?_
  refine H_calli (av := [.ref (ad D 115)]) (rest := [.int y1]) H mqX8_place q88 (by decide) (Nat.le_of_ble_eq_true rfl) (k_resV (ci := 7) (av := []) (rest := [.int y1]) (fs_115 hF) (by decide) rfl rfl q1864 q1865 q1866 q1867 mhX8_place mnX8_place dL_law_298) (fun y4 h5 g6 H => ?_)
  refine V_icmp_eq (tgt := 1107) dL_law_301 (by decide) (fun c7 => ?_) (fun c7 => ?_)
  · have H := H.1 c7
    exact bL_law_1107 hF x4 H
  · have H := H.2 c7
    refine V_iconst (v := 0) dL_law_304 (by decide) ?_
    exact G_zret hF rfl isB0 dL_law_305 H
abbrev JL_law_280 (D : DE) (f : Nat) (Q : Int32 → Frm → HI → HL → Prop) (T : Nat → Frm → HI → HL → Prop) (F : Frm) (h : HI) (g : HL) (x4 : Int32) : Prop := Gi D f mX1_read [.ref (ad D 0)] F h g (fun y1 F4 h2 g3 => Si D f mX8_read [.ref (ad D 115)] F4 h2 g3 (fun y7 h8 g9 => ((y1 = y7 → JL_law_1107 D f Q T F4 h8 g9 x4) ∧ (¬ y1 = y7 → Q 0 F4 h8 g9)))) T
theorem bL_law_280 {D : DE} {f : Nat} {Q : Int32 → Frm → HI → HL → Prop} {T : Nat → Frm → HI → HL → Prop} {F : Frm} {h : HI} {g : HL} (hF : k_Fix F) (x4 : Int32) (H : JL_law_280 D f Q T F h g x4) : V D mL_law (f + 1) (gi Q T) 280 [(0, .ref (dO D 7)), (1, .ref (ad D 0)), (2, .ref (ad D 115)), (3, .ref (ad D 159)), (4, .int x4)] [] (F, h, g) := by
  refine V_aload_n dL_law_280 rfl 1 rfl ?_
  refine G_calli (av := [.ref (ad D 0)]) (rest := []) H mqX1_read q81 (by decide) (Nat.le_of_ble_eq_true rfl) (k_resV (ci := 0) (av := []) (rest := []) (fs_0 hF) (by decide) rfl rfl q415 q416 q417 q418 mhX1_read mnX1_read dL_law_281) (fun y1 F4 h2 g3 hF5 H => ?_) (fun a e F1 h1 g1 hF1 ha ht => GT_i hF1 rfl ha ht)
  refine V_aload_n dL_law_284 rfl 2 rfl ?_
  refine H_calli (av := [.ref (ad D 115)]) (rest := [.int y1]) H mqX8_read q88 (by decide) (Nat.le_of_ble_eq_true rfl) (k_resV (ci := 7) (av := []) (rest := [.int y1]) (fs_115 hF5) (by decide) rfl rfl q1724 q1725 q1726 q1727 mhX8_read mnX8_read dL_law_285) (fun y7 h8 g9 H => ?_)
  refine V_icmp_eq (tgt := 1107) dL_law_288 (by decide) (fun c10 => ?_) (fun c10 => ?_)
  · have H := H.1 c10
    exact bL_law_1107 hF5 x4 H
  · have H := H.2 c10
    refine V_iconst (v := 0) dL_law_291 (by decide) ?_
    exact G_zret hF5 rfl isB0 dL_law_292 H
abbrev JL_law_277 (D : DE) (f : Nat) (Q : Int32 → Frm → HI → HL → Prop) (T : Nat → Frm → HI → HL → Prop) (F : Frm) (h : HI) (g : HL) (x4 : Int32) : Prop := JL_law_1107 D f Q T F h g x4
theorem bL_law_277 {D : DE} {f : Nat} {Q : Int32 → Frm → HI → HL → Prop} {T : Nat → Frm → HI → HL → Prop} {F : Frm} {h : HI} {g : HL} (hF : k_Fix F) (x4 : Int32) (H : JL_law_277 D f Q T F h g x4) : V D mL_law (f + 1) (gi Q T) 277 [(0, .ref (dO D 7)), (1, .ref (ad D 0)), (2, .ref (ad D 115)), (3, .ref (ad D 159)), (4, .int x4)] [] (F, h, g) := by
  refine V_goto (tgt := 1107) dL_law_277 (by decide) ?_
  exact bL_law_1107 hF x4 H
abbrev JL_law_224 (D : DE) (f : Nat) (Q : Int32 → Frm → HI → HL → Prop) (T : Nat → Frm → HI → HL → Prop) (F : Frm) (h : HI) (g : HL) (x4 : Int32) : Prop := vp_in (x4 + 1) (dL D) ∧ Gi D f mX0_cut [.ref (ad D 0), .int (dX D (ix (x4 + 1))), .ref (ad D 159)] F h g (fun y2 F5 h3 g4 => vp_in (x4 + 1) (dL D) ∧ Si D f mX8_cut [.ref (ad D 115), .int (dX D (ix (x4 + 1)))] F5 h3 g4 (fun y9 h10 g11 => Si D f mX8_thrown [.ref (ad D 115)] F5 h10 g11 (fun y12 h13 g14 => ((y12 = y2 → ((¬ y2 = 0 → JL_law_277 D f Q T F5 h13 g14 x4) ∧ (y2 = 0 → (((lg_cmp (g14 159 (ix 0)) y9.toInt64) = 0 → JL_law_277 D f Q T F5 h13 g14 x4) ∧ (¬ (lg_cmp (g14 159 (ix 0)) y9.toInt64) = 0 → Q 0 F5 h13 g14))))) ∧ (¬ y12 = y2 → Q 0 F5 h13 g14))))) T
theorem bL_law_224 {D : DE} {f : Nat} {Q : Int32 → Frm → HI → HL → Prop} {T : Nat → Frm → HI → HL → Prop} {F : Frm} {h : HI} {g : HL} (hF : k_Fix F) (x4 : Int32) (H : JL_law_224 D f Q T F h g x4) : V D mL_law (f + 1) (gi Q T) 224 [(0, .ref (dO D 7)), (1, .ref (ad D 0)), (2, .ref (ad D 115)), (3, .ref (ad D 159)), (4, .int x4)] [] (F, h, g) := by
  refine V_aload_n dL_law_224 rfl 1 rfl ?_
  refine V_aload_n dL_law_225 rfl 0 rfl ?_
  refine V_iload dL_law_226 4 rfl ?_
  refine V_iconst (v := 1) dL_law_228 (by decide) ?_
  refine V_iadd dL_law_229 ?_
  obtain ⟨i1, H⟩ := H
  refine V_ti (v := .int (dX D (ix (x4 + 1)))) (fun _ hE => k_scr hE) i1 rfl dL_law_230 ?_
  refine V_aload_n dL_law_231 rfl 3 rfl ?_
  refine G_calli (av := [.ref (ad D 0), .int (dX D (ix (x4 + 1))), .ref (ad D 159)]) (rest := []) H mqX0_cut q80 (by decide) (Nat.le_of_ble_eq_true rfl) (k_resS (av := [.ref (ad D 0), .int (dX D (ix (x4 + 1))), .ref (ad D 159)]) (rest := []) (M1 := mX0_cut) rfl q1082 q1083 q80 mqX0_cut (fun _ _ h => mW_namedW h) mhX0_cut mnX0_cut dL_law_232) (fun y2 F5 h3 g4 hF6 H => ?_) (fun a e F1 h1 g1 hF1 ha ht => GT_i hF1 rfl ha ht)
  refine V_istore (l1 := [(5, .int y2), (0, .ref (dO D 7)), (1, .ref (ad D 0)), (2, .ref (ad D 115)), (3, .ref (ad D 159)), (4, .int x4)]) dL_law_235 (by decide) rfl ?_
  refine V_aload_n dL_law_237 rfl 3 rfl ?_
  refine V_aload_n dL_law_238 rfl 1 rfl ?_
  refine V_iload dL_law_239 5 rfl ?_
  refine V_iconst (v := 1) dL_law_241 (by decide) ?_
  refine V_iadd dL_law_242 ?_
  obtain ⟨i8, H⟩ := H
  refine V_ti (v := .int (dX D (ix (x4 + 1)))) (fun _ hE => k_scr hE) i8 rfl dL_law_243 ?_
  refine H_calli (av := [.ref (ad D 115), .int (dX D (ix (x4 + 1)))]) (rest := []) H mqX8_cut q88 (by decide) (Nat.le_of_ble_eq_true rfl) (k_resV (ci := 7) (av := [.int (dX D (ix (x4 + 1)))]) (rest := []) (fs_115 hF6) (by decide) rfl rfl q1717 q1718 q1719 q1720 mhX8_cut mnX8_cut dL_law_244) (fun y9 h10 g11 H => ?_)
  refine V_istore (l1 := [(6, .int y9), (5, .int y2), (0, .ref (dO D 7)), (1, .ref (ad D 0)), (2, .ref (ad D 115)), (3, .ref (ad D 159)), (4, .int x4)]) dL_law_247 (by decide) rfl ?_
  refine V_aload_n dL_law_249 rfl 4 rfl ?_
  refine H_calli (av := [.ref (ad D 115)]) (rest := []) H mqX8_thrown q88 (by decide) (Nat.le_of_ble_eq_true rfl) (k_resV (ci := 7) (av := []) (rest := []) (fs_115 hF6) (by decide) rfl rfl q1709 q1710 q1711 q1712 mhX8_thrown mnX8_thrown dL_law_250) (fun y12 h13 g14 H => ?_)
  refine V_iload dL_law_253 1 rfl ?_
  refine V_icmp_eq (tgt := 260) dL_law_255 (by decide) (fun c15 => ?_) (fun c15 => ?_)
  · have H := H.1 c15
    refine V_iload dL_law_260 1 rfl ?_
    refine V_if_ne (tgt := 277) dL_law_262 (by decide) (fun c16 => ?_) (fun c16 => ?_)
    · have H := H.1 c16
      refine V.sub [2, 3, 4, 5, 6] rfl ?_
      exact bL_law_277 hF6 x4 H
    · have H := H.2 c16
      refine V_aload_n dL_law_265 rfl 5 rfl ?_
      refine V_iconst (v := 0) dL_law_266 (by decide) ?_
      refine H_lald (fs_159 hF6) (by unfold vp_in; decide) dL_law_267 ?_
      refine V_iload dL_law_268 0 rfl ?_
      refine V_i2l dL_law_270 ?_
      refine V_lcmp dL_law_271 ?_
      refine V_if_eq (tgt := 277) dL_law_272 (by decide) (fun c17 => ?_) (fun c17 => ?_)
      · have H := H.1 c17
        refine V.sub [2, 3, 4, 5, 6] rfl ?_
        exact bL_law_277 hF6 x4 H
      · have H := H.2 c17
        refine V_iconst (v := 0) dL_law_275 (by decide) ?_
        exact G_zret hF6 rfl isB0 dL_law_276 H
  · have H := H.2 c15
    refine V_iconst (v := 0) dL_law_258 (by decide) ?_
    exact G_zret hF6 rfl isB0 dL_law_259 H
abbrev JL_law_221 (D : DE) (f : Nat) (Q : Int32 → Frm → HI → HL → Prop) (T : Nat → Frm → HI → HL → Prop) (F : Frm) (h : HI) (g : HL) (x4 : Int32) : Prop := JL_law_1107 D f Q T F h g x4
theorem bL_law_221 {D : DE} {f : Nat} {Q : Int32 → Frm → HI → HL → Prop} {T : Nat → Frm → HI → HL → Prop} {F : Frm} {h : HI} {g : HL} (hF : k_Fix F) (x4 : Int32) (H : JL_law_221 D f Q T F h g x4) : V D mL_law (f + 1) (gi Q T) 221 [(0, .ref (dO D 7)), (1, .ref (ad D 0)), (2, .ref (ad D 115)), (3, .ref (ad D 159)), (4, .int x4)] [] (F, h, g) := by
  refine V_goto (tgt := 1107) dL_law_221 (by decide) ?_
  exact bL_law_1107 hF x4 H
abbrev JL_law_120 (D : DE) (f : Nat) (Q : Int32 → Frm → HI → HL → Prop) (T : Nat → Frm → HI → HL → Prop) (F : Frm) (h : HI) (g : HL) (x4 : Int32) : Prop := vp_in (x4 + 1) (dL D) ∧ vp_in (x4 + 2) (dL D) ∧ vp_in (x4 + 3) (dL D) ∧ vp_in (x4 + 4) (dL D) ∧ vp_in (x4 + 5) (dL D) ∧ Gi D f mX0_feed [.ref (ad D 0), .int (dX D (ix (x4 + 1))), .int (dX D (ix (x4 + 2))), .int (dX D (ix (x4 + 3))), .int (dX D (ix (x4 + 4))), .int (dX D (ix (x4 + 5))), .ref (ad D 159)] F h g (fun y6 F9 h7 g8 => vp_in (x4 + 1) (dL D) ∧ vp_in (x4 + 2) (dL D) ∧ vp_in (x4 + 3) (dL D) ∧ vp_in (x4 + 4) (dL D) ∧ vp_in (x4 + 5) (dL D) ∧ Si D f mX8_feed [.ref (ad D 115), .int (dX D (ix (x4 + 1))), .int (dX D (ix (x4 + 2))), .int (dX D (ix (x4 + 3))), .int (dX D (ix (x4 + 4))), .int (dX D (ix (x4 + 5)))] F9 h7 g8 (fun y17 h18 g19 => Si D f mX8_thrown [.ref (ad D 115)] F9 h18 g19 (fun y20 h21 g22 => ((y20 = y6 → ((¬ y6 = 0 → JL_law_221 D f Q T F9 h21 g22 x4) ∧ (y6 = 0 → (((lg_cmp (g22 159 (ix 0)) y17.toInt64) = 0 → JL_law_221 D f Q T F9 h21 g22 x4) ∧ (¬ (lg_cmp (g22 159 (ix 0)) y17.toInt64) = 0 → Q 0 F9 h21 g22))))) ∧ (¬ y20 = y6 → Q 0 F9 h21 g22))))) T
theorem bL_law_120 {D : DE} {f : Nat} {Q : Int32 → Frm → HI → HL → Prop} {T : Nat → Frm → HI → HL → Prop} {F : Frm} {h : HI} {g : HL} (hF : k_Fix F) (x4 : Int32) (H : JL_law_120 D f Q T F h g x4) : V D mL_law (f + 1) (gi Q T) 120 [(0, .ref (dO D 7)), (1, .ref (ad D 0)), (2, .ref (ad D 115)), (3, .ref (ad D 159)), (4, .int x4)] [] (F, h, g) := by
  refine V_aload_n dL_law_120 rfl 1 rfl ?_
  refine V_aload_n dL_law_121 rfl 0 rfl ?_
  refine V_iload dL_law_122 4 rfl ?_
  refine V_iconst (v := 1) dL_law_124 (by decide) ?_
  refine V_iadd dL_law_125 ?_
  obtain ⟨i1, H⟩ := H
  refine V_ti (v := .int (dX D (ix (x4 + 1)))) (fun _ hE => k_scr hE) i1 rfl dL_law_126 ?_
  refine V_aload_n dL_law_127 rfl 0 rfl ?_
  refine V_iload dL_law_128 4 rfl ?_
  refine V_iconst (v := 2) dL_law_130 (by decide) ?_
  refine V_iadd dL_law_131 ?_
  obtain ⟨i2, H⟩ := H
  refine V_ti (v := .int (dX D (ix (x4 + 2)))) (fun _ hE => k_scr hE) i2 rfl dL_law_132 ?_
  refine V_aload_n dL_law_133 rfl 0 rfl ?_
  refine V_iload dL_law_134 4 rfl ?_
  refine V_iconst (v := 3) dL_law_136 (by decide) ?_
  refine V_iadd dL_law_137 ?_
  obtain ⟨i3, H⟩ := H
  refine V_ti (v := .int (dX D (ix (x4 + 3)))) (fun _ hE => k_scr hE) i3 rfl dL_law_138 ?_
  refine V_aload_n dL_law_139 rfl 0 rfl ?_
  refine V_iload dL_law_140 4 rfl ?_
  refine V_iconst (v := 4) dL_law_142 (by decide) ?_
  refine V_iadd dL_law_143 ?_
  obtain ⟨i4, H⟩ := H
  refine V_ti (v := .int (dX D (ix (x4 + 4)))) (fun _ hE => k_scr hE) i4 rfl dL_law_144 ?_
  refine V_aload_n dL_law_145 rfl 0 rfl ?_
  refine V_iload dL_law_146 4 rfl ?_
  refine V_iconst (v := 5) dL_law_148 (by decide) ?_
  refine V_iadd dL_law_149 ?_
  obtain ⟨i5, H⟩ := H
  refine V_ti (v := .int (dX D (ix (x4 + 5)))) (fun _ hE => k_scr hE) i5 rfl dL_law_150 ?_
  refine V_aload_n dL_law_151 rfl 3 rfl ?_
  refine G_calli (av := [.ref (ad D 0), .int (dX D (ix (x4 + 1))), .int (dX D (ix (x4 + 2))), .int (dX D (ix (x4 + 3))), .int (dX D (ix (x4 + 4))), .int (dX D (ix (x4 + 5))), .ref (ad D 159)]) (rest := []) H mqX0_feed q80 (by decide) (Nat.le_of_ble_eq_true rfl) (k_resS (av := [.ref (ad D 0), .int (dX D (ix (x4 + 1))), .int (dX D (ix (x4 + 2))), .int (dX D (ix (x4 + 3))), .int (dX D (ix (x4 + 4))), .int (dX D (ix (x4 + 5))), .ref (ad D 159)]) (rest := []) (M1 := mX0_feed) rfl q1057 q1058 q80 mqX0_feed (fun _ _ h => mW_namedW h) mhX0_feed mnX0_feed dL_law_152) (fun y6 F9 h7 g8 hF10 H => ?_) (fun a e F1 h1 g1 hF1 ha ht => GT_i hF1 rfl ha ht)
  refine V_istore (l1 := [(5, .int y6), (0, .ref (dO D 7)), (1, .ref (ad D 0)), (2, .ref (ad D 115)), (3, .ref (ad D 159)), (4, .int x4)]) dL_law_155 (by decide) rfl ?_
  refine V_aload_n dL_law_157 rfl 3 rfl ?_
  refine V_aload_n dL_law_158 rfl 1 rfl ?_
  refine V_iload dL_law_159 5 rfl ?_
  refine V_iconst (v := 1) dL_law_161 (by decide) ?_
  refine V_iadd dL_law_162 ?_
  obtain ⟨i12, H⟩ := H
  refine V_ti (v := .int (dX D (ix (x4 + 1)))) (fun _ hE => k_scr hE) i12 rfl dL_law_163 ?_
  refine V_aload_n dL_law_164 rfl 1 rfl ?_
  refine V_iload dL_law_165 5 rfl ?_
  refine V_iconst (v := 2) dL_law_167 (by decide) ?_
  refine V_iadd dL_law_168 ?_
  obtain ⟨i13, H⟩ := H
  refine V_ti (v := .int (dX D (ix (x4 + 2)))) (fun _ hE => k_scr hE) i13 rfl dL_law_169 ?_
  refine V_aload_n dL_law_170 rfl 1 rfl ?_
  refine V_iload dL_law_171 5 rfl ?_
  refine V_iconst (v := 3) dL_law_173 (by decide) ?_
  refine V_iadd dL_law_174 ?_
  obtain ⟨i14, H⟩ := H
  refine V_ti (v := .int (dX D (ix (x4 + 3)))) (fun _ hE => k_scr hE) i14 rfl dL_law_175 ?_
  refine V_aload_n dL_law_176 rfl 1 rfl ?_
  refine V_iload dL_law_177 5 rfl ?_
  refine V_iconst (v := 4) dL_law_179 (by decide) ?_
  refine V_iadd dL_law_180 ?_
  obtain ⟨i15, H⟩ := H
  refine V_ti (v := .int (dX D (ix (x4 + 4)))) (fun _ hE => k_scr hE) i15 rfl dL_law_181 ?_
  refine V_aload_n dL_law_182 rfl 1 rfl ?_
  refine V_iload dL_law_183 5 rfl ?_
  refine V_iconst (v := 5) dL_law_185 (by decide) ?_
  refine V_iadd dL_law_186 ?_
  obtain ⟨i16, H⟩ := H
  refine V_ti (v := .int (dX D (ix (x4 + 5)))) (fun _ hE => k_scr hE) i16 rfl dL_law_187 ?_
  refine H_calli (av := [.ref (ad D 115), .int (dX D (ix (x4 + 1))), .int (dX D (ix (x4 + 2))), .int (dX D (ix (x4 + 3))), .int (dX D (ix (x4 + 4))), .int (dX D (ix (x4 + 5)))]) (rest := []) H mqX8_feed q88 (by decide) (Nat.le_of_ble_eq_true rfl) (k_resV (ci := 7) (av := [.int (dX D (ix (x4 + 1))), .int (dX D (ix (x4 + 2))), .int (dX D (ix (x4 + 3))), .int (dX D (ix (x4 + 4))), .int (dX D (ix (x4 + 5)))]) (rest := []) (fs_115 hF10) (by decide) rfl rfl q1713 q1714 q1715 q1716 mhX8_feed mnX8_feed dL_law_188) (fun y17 h18 g19 H => ?_)
  refine V_istore (l1 := [(6, .int y17), (5, .int y6), (0, .ref (dO D 7)), (1, .ref (ad D 0)), (2, .ref (ad D 115)), (3, .ref (ad D 159)), (4, .int x4)]) dL_law_191 (by decide) rfl ?_
  refine V_aload_n dL_law_193 rfl 4 rfl ?_
  refine H_calli (av := [.ref (ad D 115)]) (rest := []) H mqX8_thrown q88 (by decide) (Nat.le_of_ble_eq_true rfl) (k_resV (ci := 7) (av := []) (rest := []) (fs_115 hF10) (by decide) rfl rfl q1709 q1710 q1711 q1712 mhX8_thrown mnX8_thrown dL_law_194) (fun y20 h21 g22 H => ?_)
  refine V_iload dL_law_197 1 rfl ?_
  refine V_icmp_eq (tgt := 204) dL_law_199 (by decide) (fun c23 => ?_) (fun c23 => ?_)
  · have H := H.1 c23
    refine V_iload dL_law_204 1 rfl ?_
    refine V_if_ne (tgt := 221) dL_law_206 (by decide) (fun c24 => ?_) (fun c24 => ?_)
    · have H := H.1 c24
      refine V.sub [2, 3, 4, 5, 6] rfl ?_
      exact bL_law_221 hF10 x4 H
    · have H := H.2 c24
      refine V_aload_n dL_law_209 rfl 5 rfl ?_
      refine V_iconst (v := 0) dL_law_210 (by decide) ?_
      refine H_lald (fs_159 hF10) (by unfold vp_in; decide) dL_law_211 ?_
      refine V_iload dL_law_212 0 rfl ?_
      refine V_i2l dL_law_214 ?_
      refine V_lcmp dL_law_215 ?_
      refine V_if_eq (tgt := 221) dL_law_216 (by decide) (fun c25 => ?_) (fun c25 => ?_)
      · have H := H.1 c25
        refine V.sub [2, 3, 4, 5, 6] rfl ?_
        exact bL_law_221 hF10 x4 H
      · have H := H.2 c25
        refine V_iconst (v := 0) dL_law_219 (by decide) ?_
        exact G_zret hF10 rfl isB0 dL_law_220 H
  · have H := H.2 c23
    refine V_iconst (v := 0) dL_law_202 (by decide) ?_
    exact G_zret hF10 rfl isB0 dL_law_203 H
abbrev JL_law_23 (D : DE) (f : Nat) (Q : Int32 → Frm → HI → HL → Prop) (T : Nat → Frm → HI → HL → Prop) (F : Frm) (h : HI) (g : HL) (x4 : Int32) : Prop := ((((nI (dL D)) - 6) < x4 → Q 1 F h g) ∧ (¬ ((nI (dL D)) - 6) < x4 → vp_in x4 (dL D) ∧ ∀ y3 : Int32, y3 = ((dX D (ix x4)) &&& 15) → ((y3.toInt < 0 ∨ 15 < y3.toInt → JL_law_1107 D f Q T F h g x4) ∧ (y3 = 0 → JL_law_120 D f Q T F h g x4) ∧ (y3 = 1 → JL_law_224 D f Q T F h g x4) ∧ (y3 = 2 → JL_law_280 D f Q T F h g x4) ∧ (y3 = 3 → JL_law_293 D f Q T F h g x4) ∧ (y3 = 4 → JL_law_306 D f Q T F h g x4) ∧ (y3 = 5 → JL_law_374 D f Q T F h g x4) ∧ (y3 = 6 → JL_law_418 D f Q T F h g x4) ∧ (y3 = 7 → JL_law_493 D f Q T F h g x4) ∧ (y3 = 8 → JL_law_573 D f Q T F h g x4) ∧ (y3 = 9 → JL_law_648 D f Q T F h g x4) ∧ (y3 = 10 → JL_law_740 D f Q T F h g x4) ∧ (y3 = 11 → JL_law_784 D f Q T F h g x4) ∧ (y3 = 12 → JL_law_852 D f Q T F h g x4) ∧ (y3 = 13 → JL_law_932 D f Q T F h g x4) ∧ (y3 = 14 → JL_law_988 D f Q T F h g x4) ∧ (y3 = 15 → JL_law_1044 D f Q T F h g x4))))
theorem bL_law_23 {D : DE} {f : Nat} {Q : Int32 → Frm → HI → HL → Prop} {T : Nat → Frm → HI → HL → Prop} {F : Frm} {h : HI} {g : HL} (hF : k_Fix F) (x4 : Int32) (H : JL_law_23 D f Q T F h g x4) : V D mL_law (f + 1) (gi Q T) 23 [(0, .ref (dO D 7)), (1, .ref (ad D 0)), (2, .ref (ad D 115)), (3, .ref (ad D 159)), (4, .int x4)] [] (F, h, g) := by
  refine V_iload dL_law_23 4 rfl ?_
  refine V_aload_n dL_law_25 rfl 0 rfl ?_
  refine V_tlen (x := nI (dL D)) (fun _ hE => k_scr hE) rfl dL_law_26 ?_
  refine V_bipush (v := 6) dL_law_27 (by decide) ?_
  refine V_isub dL_law_29 ?_
  refine V_icmp_gt (tgt := 1113) dL_law_30 (by decide) (fun c1 => ?_) (fun c1 => ?_)
  · have H := H.1 c1
    refine V_iconst (v := 1) dL_law_1113 (by decide) ?_
    exact G_zret hF rfl isB1 dL_law_1114 H
  · have H := H.2 c1
    refine V_aload_n dL_law_33 rfl 0 rfl ?_
    refine V_iload dL_law_34 4 rfl ?_
    obtain ⟨i2, H⟩ := H
    refine V_ti (v := .int (dX D (ix x4))) (fun _ hE => k_scr hE) i2 rfl dL_law_36 ?_
    refine V_bipush (v := 15) dL_law_37 (by decide) ?_
    refine V_iand dL_law_39 ?_
    refine V_topi (fun y3 e4 => ?_)
    have H := H y3 e4
    by_cases c5 : y3.toInt < 0 ∨ 15 < y3.toInt
    · have H := H.1 c5
      refine V_tableOut (tgt := 1107) dL_law_40 c5 (by decide) ?_
      exact bL_law_1107 hF x4 H
    · rcases tsw_0_15 c5 with c5 | c5 | c5 | c5 | c5 | c5 | c5 | c5 | c5 | c5 | c5 | c5 | c5 | c5 | c5 | c5
      · have H := H.2.1 c5
        refine V_tableIn (tgt := 120) dL_law_40 (by rw [c5]; decide) (by rw [c5]; decide) (by rw [c5]; rfl) (by decide) ?_
        exact bL_law_120 hF x4 H
      · have H := H.2.2.1 c5
        refine V_tableIn (tgt := 224) dL_law_40 (by rw [c5]; decide) (by rw [c5]; decide) (by rw [c5]; rfl) (by decide) ?_
        exact bL_law_224 hF x4 H
      · have H := H.2.2.2.1 c5
        refine V_tableIn (tgt := 280) dL_law_40 (by rw [c5]; decide) (by rw [c5]; decide) (by rw [c5]; rfl) (by decide) ?_
        exact bL_law_280 hF x4 H
      · have H := H.2.2.2.2.1 c5
        refine V_tableIn (tgt := 293) dL_law_40 (by rw [c5]; decide) (by rw [c5]; decide) (by rw [c5]; rfl) (by decide) ?_
        exact bL_law_293 hF x4 H
      · have H := H.2.2.2.2.2.1 c5
        refine V_tableIn (tgt := 306) dL_law_40 (by rw [c5]; decide) (by rw [c5]; decide) (by rw [c5]; rfl) (by decide) ?_
        exact bL_law_306 hF x4 H
      · have H := H.2.2.2.2.2.2.1 c5
        refine V_tableIn (tgt := 374) dL_law_40 (by rw [c5]; decide) (by rw [c5]; decide) (by rw [c5]; rfl) (by decide) ?_
        exact bL_law_374 hF x4 H
      · have H := H.2.2.2.2.2.2.2.1 c5
        refine V_tableIn (tgt := 418) dL_law_40 (by rw [c5]; decide) (by rw [c5]; decide) (by rw [c5]; rfl) (by decide) ?_
        exact bL_law_418 hF x4 H
      · have H := H.2.2.2.2.2.2.2.2.1 c5
        refine V_tableIn (tgt := 493) dL_law_40 (by rw [c5]; decide) (by rw [c5]; decide) (by rw [c5]; rfl) (by decide) ?_
        exact bL_law_493 hF x4 H
      · have H := H.2.2.2.2.2.2.2.2.2.1 c5
        refine V_tableIn (tgt := 573) dL_law_40 (by rw [c5]; decide) (by rw [c5]; decide) (by rw [c5]; rfl) (by decide) ?_
        exact bL_law_573 hF x4 H
      · have H := H.2.2.2.2.2.2.2.2.2.2.1 c5
        refine V_tableIn (tgt := 648) dL_law_40 (by rw [c5]; decide) (by rw [c5]; decide) (by rw [c5]; rfl) (by decide) ?_
        exact bL_law_648 hF x4 H
      · have H := H.2.2.2.2.2.2.2.2.2.2.2.1 c5
        refine V_tableIn (tgt := 740) dL_law_40 (by rw [c5]; decide) (by rw [c5]; decide) (by rw [c5]; rfl) (by decide) ?_
        exact bL_law_740 hF x4 H
      · have H := H.2.2.2.2.2.2.2.2.2.2.2.2.1 c5
        refine V_tableIn (tgt := 784) dL_law_40 (by rw [c5]; decide) (by rw [c5]; decide) (by rw [c5]; rfl) (by decide) ?_
        exact bL_law_784 hF x4 H
      · have H := H.2.2.2.2.2.2.2.2.2.2.2.2.2.1 c5
        refine V_tableIn (tgt := 852) dL_law_40 (by rw [c5]; decide) (by rw [c5]; decide) (by rw [c5]; rfl) (by decide) ?_
        exact bL_law_852 hF x4 H
      · have H := H.2.2.2.2.2.2.2.2.2.2.2.2.2.2.1 c5
        refine V_tableIn (tgt := 932) dL_law_40 (by rw [c5]; decide) (by rw [c5]; decide) (by rw [c5]; rfl) (by decide) ?_
        exact bL_law_932 hF x4 H
      · have H := H.2.2.2.2.2.2.2.2.2.2.2.2.2.2.2.1 c5
        refine V_tableIn (tgt := 988) dL_law_40 (by rw [c5]; decide) (by rw [c5]; decide) (by rw [c5]; rfl) (by decide) ?_
        exact bL_law_988 hF x4 H
      · have H := H.2.2.2.2.2.2.2.2.2.2.2.2.2.2.2.2 c5
        refine V_tableIn (tgt := 1044) dL_law_40 (by rw [c5]; decide) (by rw [c5]; decide) (by rw [c5]; rfl) (by decide) ?_
        exact bL_law_1044 hF x4 H
