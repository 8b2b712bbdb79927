theorem d_Law_law_0 : decode code 0 = .ok (.new 7, 3) := by decide +kernel
theorem d_Law_law_3 : decode code 3 = .ok (.dup, 1) := by decide +kernel
theorem d_Law_law_4 : decode code 4 = .ok (.invokespecial 9, 3) := by decide +kernel
theorem d_Law_law_7 : decode code 7 = .ok (.astore_n 1, 1) := by decide +kernel
theorem d_Law_law_8 : decode code 8 = .ok (.new 10, 3) := by decide +kernel
theorem d_Law_law_11 : decode code 11 = .ok (.dup, 1) := by decide +kernel
theorem d_Law_law_12 : decode code 12 = .ok (.invokespecial 12, 3) := by decide +kernel
theorem d_Law_law_15 : decode code 15 = .ok (.astore_n 2, 1) := by decide +kernel
theorem d_Law_law_16 : decode code 16 = .ok (.iconst 0, 1) := by decide +kernel
theorem d_Law_law_17 : decode code 17 = .ok (.istore_n 3, 1) := by decide +kernel
theorem d_Law_law_18 : decode code 18 = .ok (.iload_n 3, 1) := by decide +kernel
theorem d_Law_law_19 : decode code 19 = .ok (.aload_n 0, 1) := by decide +kernel
theorem d_Law_law_20 : decode code 20 = .ok (.arraylength, 1) := by decide +kernel
theorem d_Law_law_21 : decode code 21 = .ok (.iconst 4, 1) := by decide +kernel
theorem d_Law_law_22 : decode code 22 = .ok (.isub, 1) := by decide +kernel
theorem d_Law_law_23 : decode code 23 = .ok (.if_icmp .gt 547, 3) := by decide +kernel
theorem d_Law_law_26 : decode code 26 = .ok (.aload_n 0, 1) := by decide +kernel
theorem d_Law_law_27 : decode code 27 = .ok (.iload_n 3, 1) := by decide +kernel
theorem d_Law_law_28 : decode code 28 = .ok (.iaload, 1) := by decide +kernel
theorem d_Law_law_29 : decode code 29 = .ok (.bipush 31, 2) := by decide +kernel
theorem d_Law_law_31 : decode code 31 = .ok (.iand, 1) := by decide +kernel
theorem d_Law_law_32 : decode code 32 = .ok (.tableswitch 532 0 17 #[88, 131, 154, 167, 180, 193, 216, 229, 242, 265, 288, 311, 344, 377, 420, 433, 476, 509], 88) := by decide +kernel
theorem d_Law_law_120 : decode code 120 = .ok (.aload_n 1, 1) := by decide +kernel
theorem d_Law_law_121 : decode code 121 = .ok (.aload_n 0, 1) := by decide +kernel
theorem d_Law_law_122 : decode code 122 = .ok (.iload_n 3, 1) := by decide +kernel
theorem d_Law_law_123 : decode code 123 = .ok (.iconst 1, 1) := by decide +kernel
theorem d_Law_law_124 : decode code 124 = .ok (.iadd, 1) := by decide +kernel
theorem d_Law_law_125 : decode code 125 = .ok (.iaload, 1) := by decide +kernel
theorem d_Law_law_126 : decode code 126 = .ok (.aload_n 0, 1) := by decide +kernel
theorem d_Law_law_127 : decode code 127 = .ok (.iload_n 3, 1) := by decide +kernel
theorem d_Law_law_128 : decode code 128 = .ok (.iconst 2, 1) := by decide +kernel
theorem d_Law_law_129 : decode code 129 = .ok (.iadd, 1) := by decide +kernel
theorem d_Law_law_130 : decode code 130 = .ok (.iaload, 1) := by decide +kernel
theorem d_Law_law_131 : decode code 131 = .ok (.aload_n 0, 1) := by decide +kernel
theorem d_Law_law_132 : decode code 132 = .ok (.iload_n 3, 1) := by decide +kernel
theorem d_Law_law_133 : decode code 133 = .ok (.iconst 3, 1) := by decide +kernel
theorem d_Law_law_134 : decode code 134 = .ok (.iadd, 1) := by decide +kernel
theorem d_Law_law_135 : decode code 135 = .ok (.iaload, 1) := by decide +kernel
theorem d_Law_law_136 : decode code 136 = .ok (.invokevirtual 13, 3) := by decide +kernel
theorem d_Law_law_139 : decode code 139 = .ok (.aload_n 2, 1) := by decide +kernel
theorem d_Law_law_140 : decode code 140 = .ok (.aload_n 0, 1) := by decide +kernel
theorem d_Law_law_141 : decode code 141 = .ok (.iload_n 3, 1) := by decide +kernel
theorem d_Law_law_142 : decode code 142 = .ok (.iconst 1, 1) := by decide +kernel
theorem d_Law_law_143 : decode code 143 = .ok (.iadd, 1) := by decide +kernel
theorem d_Law_law_144 : decode code 144 = .ok (.iaload, 1) := by decide +kernel
theorem d_Law_law_145 : decode code 145 = .ok (.aload_n 0, 1) := by decide +kernel
theorem d_Law_law_146 : decode code 146 = .ok (.iload_n 3, 1) := by decide +kernel
theorem d_Law_law_147 : decode code 147 = .ok (.iconst 2, 1) := by decide +kernel
theorem d_Law_law_148 : decode code 148 = .ok (.iadd, 1) := by decide +kernel
theorem d_Law_law_149 : decode code 149 = .ok (.iaload, 1) := by decide +kernel
theorem d_Law_law_150 : decode code 150 = .ok (.aload_n 0, 1) := by decide +kernel
theorem d_Law_law_151 : decode code 151 = .ok (.iload_n 3, 1) := by decide +kernel
theorem d_Law_law_152 : decode code 152 = .ok (.iconst 3, 1) := by decide +kernel
theorem d_Law_law_153 : decode code 153 = .ok (.iadd, 1) := by decide +kernel
theorem d_Law_law_154 : decode code 154 = .ok (.iaload, 1) := by decide +kernel
theorem d_Law_law_155 : decode code 155 = .ok (.invokevirtual 17, 3) := by decide +kernel
theorem d_Law_law_158 : decode code 158 = .ok (.if_icmp .eq 406, 3) := by decide +kernel
theorem d_Law_law_161 : decode code 161 = .ok (.iconst 0, 1) := by decide +kernel
theorem d_Law_law_162 : decode code 162 = .ok (.ireturn, 1) := by decide +kernel
theorem d_Law_law_163 : decode code 163 = .ok (.aload_n 1, 1) := by decide +kernel
theorem d_Law_law_164 : decode code 164 = .ok (.aload_n 0, 1) := by decide +kernel
theorem d_Law_law_165 : decode code 165 = .ok (.iload_n 3, 1) := by decide +kernel
theorem d_Law_law_166 : decode code 166 = .ok (.iconst 1, 1) := by decide +kernel
theorem d_Law_law_167 : decode code 167 = .ok (.iadd, 1) := by decide +kernel
theorem d_Law_law_168 : decode code 168 = .ok (.iaload, 1) := by decide +kernel
theorem d_Law_law_169 : decode code 169 = .ok (.invokevirtual 18, 3) := by decide +kernel
theorem d_Law_law_172 : decode code 172 = .ok (.aload_n 2, 1) := by decide +kernel
theorem d_Law_law_173 : decode code 173 = .ok (.aload_n 0, 1) := by decide +kernel
theorem d_Law_law_174 : decode code 174 = .ok (.iload_n 3, 1) := by decide +kernel
theorem d_Law_law_175 : decode code 175 = .ok (.iconst 1, 1) := by decide +kernel
theorem d_Law_law_176 : decode code 176 = .ok (.iadd, 1) := by decide +kernel
theorem d_Law_law_177 : decode code 177 = .ok (.iaload, 1) := by decide +kernel
theorem d_Law_law_178 : decode code 178 = .ok (.invokevirtual 22, 3) := by decide +kernel
theorem d_Law_law_181 : decode code 181 = .ok (.if_icmp .eq 383, 3) := by decide +kernel
theorem d_Law_law_184 : decode code 184 = .ok (.iconst 0, 1) := by decide +kernel
theorem d_Law_law_185 : decode code 185 = .ok (.ireturn, 1) := by decide +kernel
theorem d_Law_law_186 : decode code 186 = .ok (.aload_n 1, 1) := by decide +kernel
theorem d_Law_law_187 : decode code 187 = .ok (.invokevirtual 23, 3) := by decide +kernel
theorem d_Law_law_190 : decode code 190 = .ok (.aload_n 2, 1) := by decide +kernel
theorem d_Law_law_191 : decode code 191 = .ok (.invokevirtual 27, 3) := by decide +kernel
theorem d_Law_law_194 : decode code 194 = .ok (.if_icmp .eq 370, 3) := by decide +kernel
theorem d_Law_law_197 : decode code 197 = .ok (.iconst 0, 1) := by decide +kernel
theorem d_Law_law_198 : decode code 198 = .ok (.ireturn, 1) := by decide +kernel
theorem d_Law_law_199 : decode code 199 = .ok (.aload_n 1, 1) := by decide +kernel
theorem d_Law_law_200 : decode code 200 = .ok (.invokevirtual 28, 3) := by decide +kernel
theorem d_Law_law_203 : decode code 203 = .ok (.aload_n 2, 1) := by decide +kernel
theorem d_Law_law_204 : decode code 204 = .ok (.invokevirtual 31, 3) := by decide +kernel
theorem d_Law_law_207 : decode code 207 = .ok (.if_icmp .eq 357, 3) := by decide +kernel
theorem d_Law_law_210 : decode code 210 = .ok (.iconst 0, 1) := by decide +kernel
theorem d_Law_law_211 : decode code 211 = .ok (.ireturn, 1) := by decide +kernel
theorem d_Law_law_212 : decode code 212 = .ok (.aload_n 1, 1) := by decide +kernel
theorem d_Law_law_213 : decode code 213 = .ok (.invokevirtual 32, 3) := by decide +kernel
theorem d_Law_law_216 : decode code 216 = .ok (.aload_n 2, 1) := by decide +kernel
theorem d_Law_law_217 : decode code 217 = .ok (.invokevirtual 35, 3) := by decide +kernel
theorem d_Law_law_220 : decode code 220 = .ok (.if_icmp .eq 344, 3) := by decide +kernel
theorem d_Law_law_223 : decode code 223 = .ok (.iconst 0, 1) := by decide +kernel
theorem d_Law_law_224 : decode code 224 = .ok (.ireturn, 1) := by decide +kernel
theorem d_Law_law_225 : decode code 225 = .ok (.aload_n 1, 1) := by decide +kernel
theorem d_Law_law_226 : decode code 226 = .ok (.aload_n 0, 1) := by decide +kernel
theorem d_Law_law_227 : decode code 227 = .ok (.iload_n 3, 1) := by decide +kernel
theorem d_Law_law_228 : decode code 228 = .ok (.iconst 1, 1) := by decide +kernel
theorem d_Law_law_229 : decode code 229 = .ok (.iadd, 1) := by decide +kernel
theorem d_Law_law_230 : decode code 230 = .ok (.iaload, 1) := by decide +kernel
theorem d_Law_law_231 : decode code 231 = .ok (.invokevirtual 36, 3) := by decide +kernel
theorem d_Law_law_234 : decode code 234 = .ok (.aload_n 2, 1) := by decide +kernel
theorem d_Law_law_235 : decode code 235 = .ok (.aload_n 0, 1) := by decide +kernel
theorem d_Law_law_236 : decode code 236 = .ok (.iload_n 3, 1) := by decide +kernel
theorem d_Law_law_237 : decode code 237 = .ok (.iconst 1, 1) := by decide +kernel
theorem d_Law_law_238 : decode code 238 = .ok (.iadd, 1) := by decide +kernel
theorem d_Law_law_239 : decode code 239 = .ok (.iaload, 1) := by decide +kernel
theorem d_Law_law_240 : decode code 240 = .ok (.invokevirtual 39, 3) := by decide +kernel
theorem d_Law_law_243 : decode code 243 = .ok (.if_icmp .eq 321, 3) := by decide +kernel
theorem d_Law_law_246 : decode code 246 = .ok (.iconst 0, 1) := by decide +kernel
theorem d_Law_law_247 : decode code 247 = .ok (.ireturn, 1) := by decide +kernel
theorem d_Law_law_248 : decode code 248 = .ok (.aload_n 1, 1) := by decide +kernel
theorem d_Law_law_249 : decode code 249 = .ok (.invokevirtual 40, 3) := by decide +kernel
theorem d_Law_law_252 : decode code 252 = .ok (.aload_n 2, 1) := by decide +kernel
theorem d_Law_law_253 : decode code 253 = .ok (.invokevirtual 43, 3) := by decide +kernel
theorem d_Law_law_256 : decode code 256 = .ok (.if_icmp .eq 308, 3) := by decide +kernel
theorem d_Law_law_259 : decode code 259 = .ok (.iconst 0, 1) := by decide +kernel
theorem d_Law_law_260 : decode code 260 = .ok (.ireturn, 1) := by decide +kernel
theorem d_Law_law_261 : decode code 261 = .ok (.aload_n 1, 1) := by decide +kernel
theorem d_Law_law_262 : decode code 262 = .ok (.invokevirtual 44, 3) := by decide +kernel
theorem d_Law_law_265 : decode code 265 = .ok (.aload_n 2, 1) := by decide +kernel
theorem d_Law_law_266 : decode code 266 = .ok (.invokevirtual 47, 3) := by decide +kernel
theorem d_Law_law_269 : decode code 269 = .ok (.if_icmp .eq 295, 3) := by decide +kernel
theorem d_Law_law_272 : decode code 272 = .ok (.iconst 0, 1) := by decide +kernel
theorem d_Law_law_273 : decode code 273 = .ok (.ireturn, 1) := by decide +kernel
theorem d_Law_law_274 : decode code 274 = .ok (.aload_n 1, 1) := by decide +kernel
theorem d_Law_law_275 : decode code 275 = .ok (.aload_n 0, 1) := by decide +kernel
theorem d_Law_law_276 : decode code 276 = .ok (.iload_n 3, 1) := by decide +kernel
theorem d_Law_law_277 : decode code 277 = .ok (.iconst 1, 1) := by decide +kernel
theorem d_Law_law_278 : decode code 278 = .ok (.iadd, 1) := by decide +kernel
theorem d_Law_law_279 : decode code 279 = .ok (.iaload, 1) := by decide +kernel
theorem d_Law_law_280 : decode code 280 = .ok (.invokevirtual 48, 3) := by decide +kernel
theorem d_Law_law_283 : decode code 283 = .ok (.aload_n 2, 1) := by decide +kernel
theorem d_Law_law_284 : decode code 284 = .ok (.aload_n 0, 1) := by decide +kernel
theorem d_Law_law_285 : decode code 285 = .ok (.iload_n 3, 1) := by decide +kernel
theorem d_Law_law_286 : decode code 286 = .ok (.iconst 1, 1) := by decide +kernel
theorem d_Law_law_287 : decode code 287 = .ok (.iadd, 1) := by decide +kernel
theorem d_Law_law_288 : decode code 288 = .ok (.iaload, 1) := by decide +kernel
theorem d_Law_law_289 : decode code 289 = .ok (.invokevirtual 52, 3) := by decide +kernel
theorem d_Law_law_292 : decode code 292 = .ok (.if_icmp .eq 272, 3) := by decide +kernel
theorem d_Law_law_295 : decode code 295 = .ok (.iconst 0, 1) := by decide +kernel
theorem d_Law_law_296 : decode code 296 = .ok (.ireturn, 1) := by decide +kernel
theorem d_Law_law_297 : decode code 297 = .ok (.aload_n 1, 1) := by decide +kernel
theorem d_Law_law_298 : decode code 298 = .ok (.aload_n 0, 1) := by decide +kernel
theorem d_Law_law_299 : decode code 299 = .ok (.iload_n 3, 1) := by decide +kernel
theorem d_Law_law_300 : decode code 300 = .ok (.iconst 1, 1) := by decide +kernel
theorem d_Law_law_301 : decode code 301 = .ok (.iadd, 1) := by decide +kernel
theorem d_Law_law_302 : decode code 302 = .ok (.iaload, 1) := by decide +kernel
theorem d_Law_law_303 : decode code 303 = .ok (.invokevirtual 53, 3) := by decide +kernel
theorem d_Law_law_306 : decode code 306 = .ok (.aload_n 2, 1) := by decide +kernel
theorem d_Law_law_307 : decode code 307 = .ok (.aload_n 0, 1) := by decide +kernel
theorem d_Law_law_308 : decode code 308 = .ok (.iload_n 3, 1) := by decide +kernel
theorem d_Law_law_309 : decode code 309 = .ok (.iconst 1, 1) := by decide +kernel
theorem d_Law_law_310 : decode code 310 = .ok (.iadd, 1) := by decide +kernel
theorem d_Law_law_311 : decode code 311 = .ok (.iaload, 1) := by decide +kernel
theorem d_Law_law_312 : decode code 312 = .ok (.invokevirtual 56, 3) := by decide +kernel
theorem d_Law_law_315 : decode code 315 = .ok (.if_icmp .eq 249, 3) := by decide +kernel
theorem d_Law_law_318 : decode code 318 = .ok (.iconst 0, 1) := by decide +kernel
theorem d_Law_law_319 : decode code 319 = .ok (.ireturn, 1) := by decide +kernel
theorem d_Law_law_320 : decode code 320 = .ok (.aload_n 1, 1) := by decide +kernel
theorem d_Law_law_321 : decode code 321 = .ok (.aload_n 0, 1) := by decide +kernel
theorem d_Law_law_322 : decode code 322 = .ok (.iload_n 3, 1) := by decide +kernel
theorem d_Law_law_323 : decode code 323 = .ok (.iconst 1, 1) := by decide +kernel
theorem d_Law_law_324 : decode code 324 = .ok (.iadd, 1) := by decide +kernel
theorem d_Law_law_325 : decode code 325 = .ok (.iaload, 1) := by decide +kernel
theorem d_Law_law_326 : decode code 326 = .ok (.invokevirtual 57, 3) := by decide +kernel
theorem d_Law_law_329 : decode code 329 = .ok (.aload_n 2, 1) := by decide +kernel
theorem d_Law_law_330 : decode code 330 = .ok (.aload_n 0, 1) := by decide +kernel
theorem d_Law_law_331 : decode code 331 = .ok (.iload_n 3, 1) := by decide +kernel
theorem d_Law_law_332 : decode code 332 = .ok (.iconst 1, 1) := by decide +kernel
theorem d_Law_law_333 : decode code 333 = .ok (.iadd, 1) := by decide +kernel
theorem d_Law_law_334 : decode code 334 = .ok (.iaload, 1) := by decide +kernel
theorem d_Law_law_335 : decode code 335 = .ok (.invokevirtual 60, 3) := by decide +kernel
theorem d_Law_law_338 : decode code 338 = .ok (.if_icmp .eq 226, 3) := by decide +kernel
theorem d_Law_law_341 : decode code 341 = .ok (.iconst 0, 1) := by decide +kernel
theorem d_Law_law_342 : decode code 342 = .ok (.ireturn, 1) := by decide +kernel
theorem d_Law_law_343 : decode code 343 = .ok (.aload_n 1, 1) := by decide +kernel
theorem d_Law_law_344 : decode code 344 = .ok (.aload_n 0, 1) := by decide +kernel
theorem d_Law_law_345 : decode code 345 = .ok (.iload_n 3, 1) := by decide +kernel
theorem d_Law_law_346 : decode code 346 = .ok (.iconst 1, 1) := by decide +kernel
theorem d_Law_law_347 : decode code 347 = .ok (.iadd, 1) := by decide +kernel
theorem d_Law_law_348 : decode code 348 = .ok (.iaload, 1) := by decide +kernel
theorem d_Law_law_349 : decode code 349 = .ok (.aload_n 0, 1) := by decide +kernel
theorem d_Law_law_350 : decode code 350 = .ok (.iload_n 3, 1) := by decide +kernel
theorem d_Law_law_351 : decode code 351 = .ok (.iconst 2, 1) := by decide +kernel
theorem d_Law_law_352 : decode code 352 = .ok (.iadd, 1) := by decide +kernel
theorem d_Law_law_353 : decode code 353 = .ok (.iaload, 1) := by decide +kernel
theorem d_Law_law_354 : decode code 354 = .ok (.invokevirtual 61, 3) := by decide +kernel
theorem d_Law_law_357 : decode code 357 = .ok (.aload_n 2, 1) := by decide +kernel
theorem d_Law_law_358 : decode code 358 = .ok (.aload_n 0, 1) := by decide +kernel
theorem d_Law_law_359 : decode code 359 = .ok (.iload_n 3, 1) := by decide +kernel
theorem d_Law_law_360 : decode code 360 = .ok (.iconst 1, 1) := by decide +kernel
theorem d_Law_law_361 : decode code 361 = .ok (.iadd, 1) := by decide +kernel
theorem d_Law_law_362 : decode code 362 = .ok (.iaload, 1) := by decide +kernel
theorem d_Law_law_363 : decode code 363 = .ok (.aload_n 0, 1) := by decide +kernel
theorem d_Law_law_364 : decode code 364 = .ok (.iload_n 3, 1) := by decide +kernel
theorem d_Law_law_365 : decode code 365 = .ok (.iconst 2, 1) := by decide +kernel
theorem d_Law_law_366 : decode code 366 = .ok (.iadd, 1) := by decide +kernel
theorem d_Law_law_367 : decode code 367 = .ok (.iaload, 1) := by decide +kernel
theorem d_Law_law_368 : decode code 368 = .ok (.invokevirtual 65, 3) := by decide +kernel
theorem d_Law_law_371 : decode code 371 = .ok (.if_icmp .eq 193, 3) := by decide +kernel
theorem d_Law_law_374 : decode code 374 = .ok (.iconst 0, 1) := by decide +kernel
theorem d_Law_law_375 : decode code 375 = .ok (.ireturn, 1) := by decide +kernel
theorem d_Law_law_376 : decode code 376 = .ok (.aload_n 1, 1) := by decide +kernel
theorem d_Law_law_377 : decode code 377 = .ok (.aload_n 0, 1) := by decide +kernel
theorem d_Law_law_378 : decode code 378 = .ok (.iload_n 3, 1) := by decide +kernel
theorem d_Law_law_379 : decode code 379 = .ok (.iconst 1, 1) := by decide +kernel
theorem d_Law_law_380 : decode code 380 = .ok (.iadd, 1) := by decide +kernel
theorem d_Law_law_381 : decode code 381 = .ok (.iaload, 1) := by decide +kernel
theorem d_Law_law_382 : decode code 382 = .ok (.aload_n 0, 1) := by decide +kernel
theorem d_Law_law_383 : decode code 383 = .ok (.iload_n 3, 1) := by decide +kernel
theorem d_Law_law_384 : decode code 384 = .ok (.iconst 2, 1) := by decide +kernel
theorem d_Law_law_385 : decode code 385 = .ok (.iadd, 1) := by decide +kernel
theorem d_Law_law_386 : decode code 386 = .ok (.iaload, 1) := by decide +kernel
theorem d_Law_law_387 : decode code 387 = .ok (.invokevirtual 66, 3) := by decide +kernel
theorem d_Law_law_390 : decode code 390 = .ok (.aload_n 2, 1) := by decide +kernel
theorem d_Law_law_391 : decode code 391 = .ok (.aload_n 0, 1) := by decide +kernel
theorem d_Law_law_392 : decode code 392 = .ok (.iload_n 3, 1) := by decide +kernel
theorem d_Law_law_393 : decode code 393 = .ok (.iconst 1, 1) := by decide +kernel
theorem d_Law_law_394 : decode code 394 = .ok (.iadd, 1) := by decide +kernel
theorem d_Law_law_395 : decode code 395 = .ok (.iaload, 1) := by decide +kernel
theorem d_Law_law_396 : decode code 396 = .ok (.aload_n 0, 1) := by decide +kernel
theorem d_Law_law_397 : decode code 397 = .ok (.iload_n 3, 1) := by decide +kernel
theorem d_Law_law_398 : decode code 398 = .ok (.iconst 2, 1) := by decide +kernel
theorem d_Law_law_399 : decode code 399 = .ok (.iadd, 1) := by decide +kernel
theorem d_Law_law_400 : decode code 400 = .ok (.iaload, 1) := by decide +kernel
theorem d_Law_law_401 : decode code 401 = .ok (.invokevirtual 70, 3) := by decide +kernel
theorem d_Law_law_404 : decode code 404 = .ok (.if_icmp .eq 160, 3) := by decide +kernel
theorem d_Law_law_407 : decode code 407 = .ok (.iconst 0, 1) := by decide +kernel
theorem d_Law_law_408 : decode code 408 = .ok (.ireturn, 1) := by decide +kernel
theorem d_Law_law_409 : decode code 409 = .ok (.aload_n 1, 1) := by decide +kernel
theorem d_Law_law_410 : decode code 410 = .ok (.aload_n 0, 1) := by decide +kernel
theorem d_Law_law_411 : decode code 411 = .ok (.iload_n 3, 1) := by decide +kernel
theorem d_Law_law_412 : decode code 412 = .ok (.iconst 1, 1) := by decide +kernel
theorem d_Law_law_413 : decode code 413 = .ok (.iadd, 1) := by decide +kernel
theorem d_Law_law_414 : decode code 414 = .ok (.iaload, 1) := by decide +kernel
theorem d_Law_law_415 : decode code 415 = .ok (.aload_n 0, 1) := by decide +kernel
theorem d_Law_law_416 : decode code 416 = .ok (.iload_n 3, 1) := by decide +kernel
theorem d_Law_law_417 : decode code 417 = .ok (.iconst 2, 1) := by decide +kernel
theorem d_Law_law_418 : decode code 418 = .ok (.iadd, 1) := by decide +kernel
theorem d_Law_law_419 : decode code 419 = .ok (.iaload, 1) := by decide +kernel
theorem d_Law_law_420 : decode code 420 = .ok (.aload_n 0, 1) := by decide +kernel
theorem d_Law_law_421 : decode code 421 = .ok (.iload_n 3, 1) := by decide +kernel
theorem d_Law_law_422 : decode code 422 = .ok (.iconst 3, 1) := by decide +kernel
theorem d_Law_law_423 : decode code 423 = .ok (.iadd, 1) := by decide +kernel
theorem d_Law_law_424 : decode code 424 = .ok (.iaload, 1) := by decide +kernel
theorem d_Law_law_425 : decode code 425 = .ok (.invokevirtual 71, 3) := by decide +kernel
theorem d_Law_law_428 : decode code 428 = .ok (.aload_n 2, 1) := by decide +kernel
theorem d_Law_law_429 : decode code 429 = .ok (.aload_n 0, 1) := by decide +kernel
theorem d_Law_law_430 : decode code 430 = .ok (.iload_n 3, 1) := by decide +kernel
theorem d_Law_law_431 : decode code 431 = .ok (.iconst 1, 1) := by decide +kernel
theorem d_Law_law_432 : decode code 432 = .ok (.iadd, 1) := by decide +kernel
theorem d_Law_law_433 : decode code 433 = .ok (.iaload, 1) := by decide +kernel
theorem d_Law_law_434 : decode code 434 = .ok (.aload_n 0, 1) := by decide +kernel
theorem d_Law_law_435 : decode code 435 = .ok (.iload_n 3, 1) := by decide +kernel
theorem d_Law_law_436 : decode code 436 = .ok (.iconst 2, 1) := by decide +kernel
theorem d_Law_law_437 : decode code 437 = .ok (.iadd, 1) := by decide +kernel
theorem d_Law_law_438 : decode code 438 = .ok (.iaload, 1) := by decide +kernel
theorem d_Law_law_439 : decode code 439 = .ok (.aload_n 0, 1) := by decide +kernel
theorem d_Law_law_440 : decode code 440 = .ok (.iload_n 3, 1) := by decide +kernel
theorem d_Law_law_441 : decode code 441 = .ok (.iconst 3, 1) := by decide +kernel
theorem d_Law_law_442 : decode code 442 = .ok (.iadd, 1) := by decide +kernel
theorem d_Law_law_443 : decode code 443 = .ok (.iaload, 1) := by decide +kernel
theorem d_Law_law_444 : decode code 444 = .ok (.invokevirtual 74, 3) := by decide +kernel
theorem d_Law_law_447 : decode code 447 = .ok (.if_icmp .eq 117, 3) := by decide +kernel
theorem d_Law_law_450 : decode code 450 = .ok (.iconst 0, 1) := by decide +kernel
theorem d_Law_law_451 : decode code 451 = .ok (.ireturn, 1) := by decide +kernel
theorem d_Law_law_452 : decode code 452 = .ok (.aload_n 1, 1) := by decide +kernel
theorem d_Law_law_453 : decode code 453 = .ok (.invokevirtual 75, 3) := by decide +kernel
theorem d_Law_law_456 : decode code 456 = .ok (.aload_n 2, 1) := by decide +kernel
theorem d_Law_law_457 : decode code 457 = .ok (.invokevirtual 78, 3) := by decide +kernel
theorem d_Law_law_460 : decode code 460 = .ok (.if_icmp .eq 104, 3) := by decide +kernel
theorem d_Law_law_463 : decode code 463 = .ok (.iconst 0, 1) := by decide +kernel
theorem d_Law_law_464 : decode code 464 = .ok (.ireturn, 1) := by decide +kernel
theorem d_Law_law_465 : decode code 465 = .ok (.aload_n 1, 1) := by decide +kernel
theorem d_Law_law_466 : decode code 466 = .ok (.aload_n 0, 1) := by decide +kernel
theorem d_Law_law_467 : decode code 467 = .ok (.iload_n 3, 1) := by decide +kernel
theorem d_Law_law_468 : decode code 468 = .ok (.iconst 1, 1) := by decide +kernel
theorem d_Law_law_469 : decode code 469 = .ok (.iadd, 1) := by decide +kernel
theorem d_Law_law_470 : decode code 470 = .ok (.iaload, 1) := by decide +kernel
theorem d_Law_law_471 : decode code 471 = .ok (.aload_n 0, 1) := by decide +kernel
theorem d_Law_law_472 : decode code 472 = .ok (.iload_n 3, 1) := by decide +kernel
theorem d_Law_law_473 : decode code 473 = .ok (.iconst 2, 1) := by decide +kernel
theorem d_Law_law_474 : decode code 474 = .ok (.iadd, 1) := by decide +kernel
theorem d_Law_law_475 : decode code 475 = .ok (.iaload, 1) := by decide +kernel
theorem d_Law_law_476 : decode code 476 = .ok (.aload_n 0, 1) := by decide +kernel
theorem d_Law_law_477 : decode code 477 = .ok (.iload_n 3, 1) := by decide +kernel
theorem d_Law_law_478 : decode code 478 = .ok (.iconst 3, 1) := by decide +kernel
theorem d_Law_law_479 : decode code 479 = .ok (.iadd, 1) := by decide +kernel
theorem d_Law_law_480 : decode code 480 = .ok (.iaload, 1) := by decide +kernel
theorem d_Law_law_481 : decode code 481 = .ok (.invokevirtual 79, 3) := by decide +kernel
theorem d_Law_law_484 : decode code 484 = .ok (.aload_n 2, 1) := by decide +kernel
theorem d_Law_law_485 : decode code 485 = .ok (.aload_n 0, 1) := by decide +kernel
theorem d_Law_law_486 : decode code 486 = .ok (.iload_n 3, 1) := by decide +kernel
theorem d_Law_law_487 : decode code 487 = .ok (.iconst 1, 1) := by decide +kernel
theorem d_Law_law_488 : decode code 488 = .ok (.iadd, 1) := by decide +kernel
theorem d_Law_law_489 : decode code 489 = .ok (.iaload, 1) := by decide +kernel
theorem d_Law_law_490 : decode code 490 = .ok (.aload_n 0, 1) := by decide +kernel
theorem d_Law_law_491 : decode code 491 = .ok (.iload_n 3, 1) := by decide +kernel
theorem d_Law_law_492 : decode code 492 = .ok (.iconst 2, 1) := by decide +kernel
theorem d_Law_law_493 : decode code 493 = .ok (.iadd, 1) := by decide +kernel
theorem d_Law_law_494 : decode code 494 = .ok (.iaload, 1) := by decide +kernel
theorem d_Law_law_495 : decode code 495 = .ok (.aload_n 0, 1) := by decide +kernel
theorem d_Law_law_496 : decode code 496 = .ok (.iload_n 3, 1) := by decide +kernel
theorem d_Law_law_497 : decode code 497 = .ok (.iconst 3, 1) := by decide +kernel
theorem d_Law_law_498 : decode code 498 = .ok (.iadd, 1) := by decide +kernel
theorem d_Law_law_499 : decode code 499 = .ok (.iaload, 1) := by decide +kernel
theorem d_Law_law_500 : decode code 500 = .ok (.invokevirtual 82, 3) := by decide +kernel
theorem d_Law_law_503 : decode code 503 = .ok (.if_icmp .eq 61, 3) := by decide +kernel
theorem d_Law_law_506 : decode code 506 = .ok (.iconst 0, 1) := by decide +kernel
theorem d_Law_law_507 : decode code 507 = .ok (.ireturn, 1) := by decide +kernel
theorem d_Law_law_508 : decode code 508 = .ok (.aload_n 1, 1) := by decide +kernel
theorem d_Law_law_509 : decode code 509 = .ok (.aload_n 0, 1) := by decide +kernel
theorem d_Law_law_510 : decode code 510 = .ok (.iload_n 3, 1) := by decide +kernel
theorem d_Law_law_511 : decode code 511 = .ok (.iconst 1, 1) := by decide +kernel
theorem d_Law_law_512 : decode code 512 = .ok (.iadd, 1) := by decide +kernel
theorem d_Law_law_513 : decode code 513 = .ok (.iaload, 1) := by decide +kernel
theorem d_Law_law_514 : decode code 514 = .ok (.aload_n 0, 1) := by decide +kernel
theorem d_Law_law_515 : decode code 515 = .ok (.iload_n 3, 1) := by decide +kernel
theorem d_Law_law_516 : decode code 516 = .ok (.iconst 2, 1) := by decide +kernel
theorem d_Law_law_517 : decode code 517 = .ok (.iadd, 1) := by decide +kernel
theorem d_Law_law_518 : decode code 518 = .ok (.iaload, 1) := by decide +kernel
theorem d_Law_law_519 : decode code 519 = .ok (.invokevirtual 83, 3) := by decide +kernel
theorem d_Law_law_522 : decode code 522 = .ok (.aload_n 2, 1) := by decide +kernel
theorem d_Law_law_523 : decode code 523 = .ok (.aload_n 0, 1) := by decide +kernel
theorem d_Law_law_524 : decode code 524 = .ok (.iload_n 3, 1) := by decide +kernel
theorem d_Law_law_525 : decode code 525 = .ok (.iconst 1, 1) := by decide +kernel
theorem d_Law_law_526 : decode code 526 = .ok (.iadd, 1) := by decide +kernel
theorem d_Law_law_527 : decode code 527 = .ok (.iaload, 1) := by decide +kernel
theorem d_Law_law_528 : decode code 528 = .ok (.aload_n 0, 1) := by decide +kernel
theorem d_Law_law_529 : decode code 529 = .ok (.iload_n 3, 1) := by decide +kernel
theorem d_Law_law_530 : decode code 530 = .ok (.iconst 2, 1) := by decide +kernel
theorem d_Law_law_531 : decode code 531 = .ok (.iadd, 1) := by decide +kernel
theorem d_Law_law_532 : decode code 532 = .ok (.iaload, 1) := by decide +kernel
theorem d_Law_law_533 : decode code 533 = .ok (.invokevirtual 86, 3) := by decide +kernel
theorem d_Law_law_536 : decode code 536 = .ok (.if_icmp .eq 28, 3) := by decide +kernel
theorem d_Law_law_539 : decode code 539 = .ok (.iconst 0, 1) := by decide +kernel
theorem d_Law_law_540 : decode code 540 = .ok (.ireturn, 1) := by decide +kernel
theorem d_Law_law_541 : decode code 541 = .ok (.aload_n 1, 1) := by decide +kernel
theorem d_Law_law_542 : decode code 542 = .ok (.aload_n 0, 1) := by decide +kernel
theorem d_Law_law_543 : decode code 543 = .ok (.iload_n 3, 1) := by decide +kernel
theorem d_Law_law_544 : decode code 544 = .ok (.iconst 1, 1) := by decide +kernel
theorem d_Law_law_545 : decode code 545 = .ok (.iadd, 1) := by decide +kernel
theorem d_Law_law_546 : decode code 546 = .ok (.iaload, 1) := by decide +kernel
theorem d_Law_law_547 : decode code 547 = .ok (.invokevirtual 87, 3) := by decide +kernel
theorem d_Law_law_550 : decode code 550 = .ok (.aload_n 2, 1) := by decide +kernel
theorem d_Law_law_551 : decode code 551 = .ok (.aload_n 0, 1) := by decide +kernel
theorem d_Law_law_552 : decode code 552 = .ok (.iload_n 3, 1) := by decide +kernel
theorem d_Law_law_553 : decode code 553 = .ok (.iconst 1, 1) := by decide +kernel
theorem d_Law_law_554 : decode code 554 = .ok (.iadd, 1) := by decide +kernel
theorem d_Law_law_555 : decode code 555 = .ok (.iaload, 1) := by decide +kernel
theorem d_Law_law_556 : decode code 556 = .ok (.invokevirtual 90, 3) := by decide +kernel
theorem d_Law_law_559 : decode code 559 = .ok (.if_icmp .eq 5, 3) := by decide +kernel
theorem d_Law_law_562 : decode code 562 = .ok (.iconst 0, 1) := by decide +kernel
theorem d_Law_law_563 : decode code 563 = .ok (.ireturn, 1) := by decide +kernel
theorem d_Law_law_564 : decode code 564 = .ok (.iinc 3 4, 3) := by decide +kernel
theorem d_Law_law_567 : decode code 567 = .ok (.goto (-549), 3) := by decide +kernel
theorem d_Law_law_570 : decode code 570 = .ok (.iconst 1, 1) := by decide +kernel
theorem d_Law_law_571 : decode code 571 = .ok (.ireturn, 1) := by decide +kernel
