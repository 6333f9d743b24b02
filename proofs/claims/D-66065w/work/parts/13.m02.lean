set_option maxRecDepth 100000
theorem dX7_turn_0 : decode cX7_turn 0 = .ok (.aload_n 0, 1) := by decide +kernel
theorem dX7_turn_1 : decode cX7_turn 1 = .ok (.invokevirtual 166, 3) := by decide +kernel
theorem dX7_turn_4 : decode cX7_turn 4 = .ok (.istore_n 2, 1) := by decide +kernel
theorem dX7_turn_5 : decode cX7_turn 5 = .ok (.iload_n 1, 1) := by decide +kernel
theorem dX7_turn_6 : decode cX7_turn 6 = .ok (.tableswitch 709 200 223 #[110, 117, 124, 149, 184, 191, 215, 230, 444, 488, 461, 573, 590, 619, 636, 667, 684, 709, 222, 709, 389, 359, 508, 396], 110) := by decide +kernel
theorem dX7_turn_116 : decode cX7_turn 116 = .ok (.aload_n 0, 1) := by decide +kernel
theorem dX7_turn_117 : decode cX7_turn 117 = .ok (.invokevirtual 236, 3) := by decide +kernel
theorem dX7_turn_120 : decode cX7_turn 120 = .ok (.goto 599, 3) := by decide +kernel
theorem dX7_turn_123 : decode cX7_turn 123 = .ok (.aload_n 0, 1) := by decide +kernel
theorem dX7_turn_124 : decode cX7_turn 124 = .ok (.invokevirtual 239, 3) := by decide +kernel
theorem dX7_turn_127 : decode cX7_turn 127 = .ok (.goto 592, 3) := by decide +kernel
theorem dX7_turn_130 : decode cX7_turn 130 = .ok (.aload_n 0, 1) := by decide +kernel
theorem dX7_turn_131 : decode cX7_turn 131 = .ok (.getfield 193, 3) := by decide +kernel
theorem dX7_turn_134 : decode cX7_turn 134 = .ok (.iconst 1, 1) := by decide +kernel
theorem dX7_turn_135 : decode cX7_turn 135 = .ok (.if_icmp .le 584, 3) := by decide +kernel
theorem dX7_turn_138 : decode cX7_turn 138 = .ok (.iload_n 2, 1) := by decide +kernel
theorem dX7_turn_139 : decode cX7_turn 139 = .ok (.invokestatic 190, 3) := by decide +kernel
theorem dX7_turn_142 : decode cX7_turn 142 = .ok (.ifCond .eq 577, 3) := by decide +kernel
theorem dX7_turn_145 : decode cX7_turn 145 = .ok (.aload_n 0, 1) := by decide +kernel
theorem dX7_turn_146 : decode cX7_turn 146 = .ok (.sipush 204, 3) := by decide +kernel
theorem dX7_turn_149 : decode cX7_turn 149 = .ok (.invokevirtual 199, 3) := by decide +kernel
theorem dX7_turn_152 : decode cX7_turn 152 = .ok (.goto 567, 3) := by decide +kernel
theorem dX7_turn_155 : decode cX7_turn 155 = .ok (.iload_n 2, 1) := by decide +kernel
theorem dX7_turn_156 : decode cX7_turn 156 = .ok (.bipush 44, 2) := by decide +kernel
theorem dX7_turn_158 : decode cX7_turn 158 = .ok (.if_icmp .ne 561, 3) := by decide +kernel
theorem dX7_turn_161 : decode cX7_turn 161 = .ok (.aload_n 0, 1) := by decide +kernel
theorem dX7_turn_162 : decode cX7_turn 162 = .ok (.getfield 20, 3) := by decide +kernel
theorem dX7_turn_165 : decode cX7_turn 165 = .ok (.aload_n 0, 1) := by decide +kernel
theorem dX7_turn_166 : decode cX7_turn 166 = .ok (.getfield 193, 3) := by decide +kernel
theorem dX7_turn_169 : decode cX7_turn 169 = .ok (.iconst 1, 1) := by decide +kernel
theorem dX7_turn_170 : decode cX7_turn 170 = .ok (.isub, 1) := by decide +kernel
theorem dX7_turn_171 : decode cX7_turn 171 = .ok (.iaload, 1) := by decide +kernel
theorem dX7_turn_172 : decode cX7_turn 172 = .ok (.iconst 3, 1) := by decide +kernel
theorem dX7_turn_173 : decode cX7_turn 173 = .ok (.if_icmp .ge 546, 3) := by decide +kernel
theorem dX7_turn_176 : decode cX7_turn 176 = .ok (.aload_n 0, 1) := by decide +kernel
theorem dX7_turn_177 : decode cX7_turn 177 = .ok (.invokevirtual 206, 3) := by decide +kernel
theorem dX7_turn_180 : decode cX7_turn 180 = .ok (.aload_n 0, 1) := by decide +kernel
theorem dX7_turn_181 : decode cX7_turn 181 = .ok (.sipush 204, 3) := by decide +kernel
theorem dX7_turn_184 : decode cX7_turn 184 = .ok (.invokevirtual 199, 3) := by decide +kernel
theorem dX7_turn_187 : decode cX7_turn 187 = .ok (.goto 532, 3) := by decide +kernel
theorem dX7_turn_190 : decode cX7_turn 190 = .ok (.aload_n 0, 1) := by decide +kernel
theorem dX7_turn_191 : decode cX7_turn 191 = .ok (.invokevirtual 242, 3) := by decide +kernel
theorem dX7_turn_194 : decode cX7_turn 194 = .ok (.goto 525, 3) := by decide +kernel
theorem dX7_turn_197 : decode cX7_turn 197 = .ok (.iload_n 2, 1) := by decide +kernel
theorem dX7_turn_198 : decode cX7_turn 198 = .ok (.invokestatic 245, 3) := by decide +kernel
theorem dX7_turn_201 : decode cX7_turn 201 = .ok (.ifCond .eq 518, 3) := by decide +kernel
theorem dX7_turn_204 : decode cX7_turn 204 = .ok (.aload_n 0, 1) := by decide +kernel
theorem dX7_turn_205 : decode cX7_turn 205 = .ok (.sipush 205, 3) := by decide +kernel
theorem dX7_turn_208 : decode cX7_turn 208 = .ok (.invokevirtual 199, 3) := by decide +kernel
theorem dX7_turn_211 : decode cX7_turn 211 = .ok (.aload_n 0, 1) := by decide +kernel
theorem dX7_turn_212 : decode cX7_turn 212 = .ok (.sipush 206, 3) := by decide +kernel
theorem dX7_turn_215 : decode cX7_turn 215 = .ok (.invokevirtual 199, 3) := by decide +kernel
theorem dX7_turn_218 : decode cX7_turn 218 = .ok (.goto 501, 3) := by decide +kernel
theorem dX7_turn_221 : decode cX7_turn 221 = .ok (.aload_n 0, 1) := by decide +kernel
theorem dX7_turn_222 : decode cX7_turn 222 = .ok (.invokevirtual 248, 3) := by decide +kernel
theorem dX7_turn_225 : decode cX7_turn 225 = .ok (.goto 494, 3) := by decide +kernel
theorem dX7_turn_228 : decode cX7_turn 228 = .ok (.aload_n 0, 1) := by decide +kernel
theorem dX7_turn_229 : decode cX7_turn 229 = .ok (.iconst 1, 1) := by decide +kernel
theorem dX7_turn_230 : decode cX7_turn 230 = .ok (.invokevirtual 222, 3) := by decide +kernel
theorem dX7_turn_233 : decode cX7_turn 233 = .ok (.goto 486, 3) := by decide +kernel
theorem dX7_turn_236 : decode cX7_turn 236 = .ok (.iload_n 2, 1) := by decide +kernel
theorem dX7_turn_237 : decode cX7_turn 237 = .ok (.bipush 58, 2) := by decide +kernel
theorem dX7_turn_239 : decode cX7_turn 239 = .ok (.if_icmp .ne 96, 3) := by decide +kernel
theorem dX7_turn_242 : decode cX7_turn 242 = .ok (.aload_n 0, 1) := by decide +kernel
theorem dX7_turn_243 : decode cX7_turn 243 = .ok (.invokevirtual 206, 3) := by decide +kernel
theorem dX7_turn_246 : decode cX7_turn 246 = .ok (.aload_n 0, 1) := by decide +kernel
theorem dX7_turn_247 : decode cX7_turn 247 = .ok (.sipush 221, 3) := by decide +kernel
theorem dX7_turn_250 : decode cX7_turn 250 = .ok (.invokevirtual 199, 3) := by decide +kernel
theorem dX7_turn_253 : decode cX7_turn 253 = .ok (.aload_n 0, 1) := by decide +kernel
theorem dX7_turn_254 : decode cX7_turn 254 = .ok (.bipush 125, 2) := by decide +kernel
theorem dX7_turn_256 : decode cX7_turn 256 = .ok (.invokevirtual 199, 3) := by decide +kernel
theorem dX7_turn_259 : decode cX7_turn 259 = .ok (.aload_n 0, 1) := by decide +kernel
theorem dX7_turn_260 : decode cX7_turn 260 = .ok (.sipush 205, 3) := by decide +kernel
theorem dX7_turn_263 : decode cX7_turn 263 = .ok (.invokevirtual 199, 3) := by decide +kernel
theorem dX7_turn_266 : decode cX7_turn 266 = .ok (.aload_n 0, 1) := by decide +kernel
theorem dX7_turn_267 : decode cX7_turn 267 = .ok (.bipush 123, 2) := by decide +kernel
theorem dX7_turn_269 : decode cX7_turn 269 = .ok (.invokevirtual 199, 3) := by decide +kernel
theorem dX7_turn_272 : decode cX7_turn 272 = .ok (.aload_n 0, 1) := by decide +kernel
theorem dX7_turn_273 : decode cX7_turn 273 = .ok (.dup, 1) := by decide +kernel
theorem dX7_turn_274 : decode cX7_turn 274 = .ok (.getfield 226, 3) := by decide +kernel
theorem dX7_turn_277 : decode cX7_turn 277 = .ok (.iconst 1, 1) := by decide +kernel
theorem dX7_turn_278 : decode cX7_turn 278 = .ok (.isub, 1) := by decide +kernel
theorem dX7_turn_279 : decode cX7_turn 279 = .ok (.putfield 226, 3) := by decide +kernel
theorem dX7_turn_282 : decode cX7_turn 282 = .ok (.aload_n 0, 1) := by decide +kernel
theorem dX7_turn_283 : decode cX7_turn 283 = .ok (.aload_n 0, 1) := by decide +kernel
theorem dX7_turn_284 : decode cX7_turn 284 = .ok (.getfield 47, 3) := by decide +kernel
theorem dX7_turn_287 : decode cX7_turn 287 = .ok (.aload_n 0, 1) := by decide +kernel
theorem dX7_turn_288 : decode cX7_turn 288 = .ok (.getfield 226, 3) := by decide +kernel
theorem dX7_turn_291 : decode cX7_turn 291 = .ok (.iaload, 1) := by decide +kernel
theorem dX7_turn_292 : decode cX7_turn 292 = .ok (.aload_n 0, 1) := by decide +kernel
theorem dX7_turn_293 : decode cX7_turn 293 = .ok (.getfield 183, 3) := by decide +kernel
theorem dX7_turn_296 : decode cX7_turn 296 = .ok (.iconst 1, 1) := by decide +kernel
theorem dX7_turn_297 : decode cX7_turn 297 = .ok (.iadd, 1) := by decide +kernel
theorem dX7_turn_298 : decode cX7_turn 298 = .ok (.invokevirtual 251, 3) := by decide +kernel
theorem dX7_turn_301 : decode cX7_turn 301 = .ok (.aload_n 0, 1) := by decide +kernel
theorem dX7_turn_302 : decode cX7_turn 302 = .ok (.getfield 47, 3) := by decide +kernel
theorem dX7_turn_305 : decode cX7_turn 305 = .ok (.aload_n 0, 1) := by decide +kernel
theorem dX7_turn_306 : decode cX7_turn 306 = .ok (.getfield 226, 3) := by decide +kernel
theorem dX7_turn_309 : decode cX7_turn 309 = .ok (.aload_n 0, 1) := by decide +kernel
theorem dX7_turn_310 : decode cX7_turn 310 = .ok (.getfield 183, 3) := by decide +kernel
theorem dX7_turn_313 : decode cX7_turn 313 = .ok (.iastore, 1) := by decide +kernel
theorem dX7_turn_314 : decode cX7_turn 314 = .ok (.aload_n 0, 1) := by decide +kernel
theorem dX7_turn_315 : decode cX7_turn 315 = .ok (.dup, 1) := by decide +kernel
theorem dX7_turn_316 : decode cX7_turn 316 = .ok (.getfield 226, 3) := by decide +kernel
theorem dX7_turn_319 : decode cX7_turn 319 = .ok (.iconst 1, 1) := by decide +kernel
theorem dX7_turn_320 : decode cX7_turn 320 = .ok (.iadd, 1) := by decide +kernel
theorem dX7_turn_321 : decode cX7_turn 321 = .ok (.putfield 226, 3) := by decide +kernel
theorem dX7_turn_324 : decode cX7_turn 324 = .ok (.aload_n 0, 1) := by decide +kernel
theorem dX7_turn_325 : decode cX7_turn 325 = .ok (.bipush 13, 2) := by decide +kernel
theorem dX7_turn_327 : decode cX7_turn 327 = .ok (.iconst 0, 1) := by decide +kernel
theorem dX7_turn_328 : decode cX7_turn 328 = .ok (.iconst 0, 1) := by decide +kernel
theorem dX7_turn_329 : decode cX7_turn 329 = .ok (.invokevirtual 232, 3) := by decide +kernel
theorem dX7_turn_332 : decode cX7_turn 332 = .ok (.goto 387, 3) := by decide +kernel
theorem dX7_turn_335 : decode cX7_turn 335 = .ok (.aload_n 0, 1) := by decide +kernel
theorem dX7_turn_336 : decode cX7_turn 336 = .ok (.dup, 1) := by decide +kernel
theorem dX7_turn_337 : decode cX7_turn 337 = .ok (.getfield 226, 3) := by decide +kernel
theorem dX7_turn_340 : decode cX7_turn 340 = .ok (.iconst 1, 1) := by decide +kernel
theorem dX7_turn_341 : decode cX7_turn 341 = .ok (.isub, 1) := by decide +kernel
theorem dX7_turn_342 : decode cX7_turn 342 = .ok (.putfield 226, 3) := by decide +kernel
theorem dX7_turn_345 : decode cX7_turn 345 = .ok (.aload_n 0, 1) := by decide +kernel
theorem dX7_turn_346 : decode cX7_turn 346 = .ok (.aload_n 0, 1) := by decide +kernel
theorem dX7_turn_347 : decode cX7_turn 347 = .ok (.getfield 47, 3) := by decide +kernel
theorem dX7_turn_350 : decode cX7_turn 350 = .ok (.aload_n 0, 1) := by decide +kernel
theorem dX7_turn_351 : decode cX7_turn 351 = .ok (.getfield 226, 3) := by decide +kernel
theorem dX7_turn_354 : decode cX7_turn 354 = .ok (.iaload, 1) := by decide +kernel
theorem dX7_turn_355 : decode cX7_turn 355 = .ok (.aload_n 0, 1) := by decide +kernel
theorem dX7_turn_356 : decode cX7_turn 356 = .ok (.getfield 183, 3) := by decide +kernel
theorem dX7_turn_359 : decode cX7_turn 359 = .ok (.invokevirtual 251, 3) := by decide +kernel
theorem dX7_turn_362 : decode cX7_turn 362 = .ok (.goto 357, 3) := by decide +kernel
theorem dX7_turn_365 : decode cX7_turn 365 = .ok (.aload_n 0, 1) := by decide +kernel
theorem dX7_turn_366 : decode cX7_turn 366 = .ok (.dup, 1) := by decide +kernel
theorem dX7_turn_367 : decode cX7_turn 367 = .ok (.getfield 226, 3) := by decide +kernel
theorem dX7_turn_370 : decode cX7_turn 370 = .ok (.iconst 1, 1) := by decide +kernel
theorem dX7_turn_371 : decode cX7_turn 371 = .ok (.isub, 1) := by decide +kernel
theorem dX7_turn_372 : decode cX7_turn 372 = .ok (.putfield 226, 3) := by decide +kernel
theorem dX7_turn_375 : decode cX7_turn 375 = .ok (.aload_n 0, 1) := by decide +kernel
theorem dX7_turn_376 : decode cX7_turn 376 = .ok (.aload_n 0, 1) := by decide +kernel
theorem dX7_turn_377 : decode cX7_turn 377 = .ok (.getfield 47, 3) := by decide +kernel
theorem dX7_turn_380 : decode cX7_turn 380 = .ok (.aload_n 0, 1) := by decide +kernel
theorem dX7_turn_381 : decode cX7_turn 381 = .ok (.getfield 226, 3) := by decide +kernel
theorem dX7_turn_384 : decode cX7_turn 384 = .ok (.iaload, 1) := by decide +kernel
theorem dX7_turn_385 : decode cX7_turn 385 = .ok (.aload_n 0, 1) := by decide +kernel
theorem dX7_turn_386 : decode cX7_turn 386 = .ok (.getfield 183, 3) := by decide +kernel
theorem dX7_turn_389 : decode cX7_turn 389 = .ok (.invokevirtual 251, 3) := by decide +kernel
theorem dX7_turn_392 : decode cX7_turn 392 = .ok (.goto 327, 3) := by decide +kernel
theorem dX7_turn_395 : decode cX7_turn 395 = .ok (.aload_n 0, 1) := by decide +kernel
theorem dX7_turn_396 : decode cX7_turn 396 = .ok (.invokevirtual 255, 3) := by decide +kernel
theorem dX7_turn_399 : decode cX7_turn 399 = .ok (.goto 320, 3) := by decide +kernel
theorem dX7_turn_402 : decode cX7_turn 402 = .ok (.aload_n 0, 1) := by decide +kernel
theorem dX7_turn_403 : decode cX7_turn 403 = .ok (.dup, 1) := by decide +kernel
theorem dX7_turn_404 : decode cX7_turn 404 = .ok (.getfield 226, 3) := by decide +kernel
theorem dX7_turn_407 : decode cX7_turn 407 = .ok (.iconst 2, 1) := by decide +kernel
theorem dX7_turn_408 : decode cX7_turn 408 = .ok (.isub, 1) := by decide +kernel
theorem dX7_turn_409 : decode cX7_turn 409 = .ok (.putfield 226, 3) := by decide +kernel
theorem dX7_turn_412 : decode cX7_turn 412 = .ok (.aload_n 0, 1) := by decide +kernel
theorem dX7_turn_413 : decode cX7_turn 413 = .ok (.bipush 13, 2) := by decide +kernel
theorem dX7_turn_415 : decode cX7_turn 415 = .ok (.aload_n 0, 1) := by decide +kernel
theorem dX7_turn_416 : decode cX7_turn 416 = .ok (.getfield 47, 3) := by decide +kernel
theorem dX7_turn_419 : decode cX7_turn 419 = .ok (.aload_n 0, 1) := by decide +kernel
theorem dX7_turn_420 : decode cX7_turn 420 = .ok (.getfield 226, 3) := by decide +kernel
theorem dX7_turn_423 : decode cX7_turn 423 = .ok (.iaload, 1) := by decide +kernel
theorem dX7_turn_424 : decode cX7_turn 424 = .ok (.iconst 0, 1) := by decide +kernel
theorem dX7_turn_425 : decode cX7_turn 425 = .ok (.invokevirtual 232, 3) := by decide +kernel
theorem dX7_turn_428 : decode cX7_turn 428 = .ok (.aload_n 0, 1) := by decide +kernel
theorem dX7_turn_429 : decode cX7_turn 429 = .ok (.aload_n 0, 1) := by decide +kernel
theorem dX7_turn_430 : decode cX7_turn 430 = .ok (.getfield 47, 3) := by decide +kernel
theorem dX7_turn_433 : decode cX7_turn 433 = .ok (.aload_n 0, 1) := by decide +kernel
theorem dX7_turn_434 : decode cX7_turn 434 = .ok (.getfield 226, 3) := by decide +kernel
theorem dX7_turn_437 : decode cX7_turn 437 = .ok (.iconst 1, 1) := by decide +kernel
theorem dX7_turn_438 : decode cX7_turn 438 = .ok (.iadd, 1) := by decide +kernel
theorem dX7_turn_439 : decode cX7_turn 439 = .ok (.iaload, 1) := by decide +kernel
theorem dX7_turn_440 : decode cX7_turn 440 = .ok (.aload_n 0, 1) := by decide +kernel
theorem dX7_turn_441 : decode cX7_turn 441 = .ok (.getfield 183, 3) := by decide +kernel
theorem dX7_turn_444 : decode cX7_turn 444 = .ok (.invokevirtual 251, 3) := by decide +kernel
theorem dX7_turn_447 : decode cX7_turn 447 = .ok (.goto 272, 3) := by decide +kernel
theorem dX7_turn_450 : decode cX7_turn 450 = .ok (.iload_n 2, 1) := by decide +kernel
theorem dX7_turn_451 : decode cX7_turn 451 = .ok (.invokestatic 258, 3) := by decide +kernel
theorem dX7_turn_454 : decode cX7_turn 454 = .ok (.ifCond .eq 265, 3) := by decide +kernel
theorem dX7_turn_457 : decode cX7_turn 457 = .ok (.aload_n 0, 1) := by decide +kernel
theorem dX7_turn_458 : decode cX7_turn 458 = .ok (.sipush 210, 3) := by decide +kernel
theorem dX7_turn_461 : decode cX7_turn 461 = .ok (.invokevirtual 199, 3) := by decide +kernel
theorem dX7_turn_464 : decode cX7_turn 464 = .ok (.goto 255, 3) := by decide +kernel
theorem dX7_turn_467 : decode cX7_turn 467 = .ok (.aload_n 0, 1) := by decide +kernel
theorem dX7_turn_468 : decode cX7_turn 468 = .ok (.dup, 1) := by decide +kernel
theorem dX7_turn_469 : decode cX7_turn 469 = .ok (.getfield 219, 3) := by decide +kernel
theorem dX7_turn_472 : decode cX7_turn 472 = .ok (.iconst 1, 1) := by decide +kernel
theorem dX7_turn_473 : decode cX7_turn 473 = .ok (.iadd, 1) := by decide +kernel
theorem dX7_turn_474 : decode cX7_turn 474 = .ok (.putfield 219, 3) := by decide +kernel
theorem dX7_turn_477 : decode cX7_turn 477 = .ok (.aload_n 0, 1) := by decide +kernel
theorem dX7_turn_478 : decode cX7_turn 478 = .ok (.sipush 209, 3) := by decide +kernel
theorem dX7_turn_481 : decode cX7_turn 481 = .ok (.invokevirtual 199, 3) := by decide +kernel
theorem dX7_turn_484 : decode cX7_turn 484 = .ok (.aload_n 0, 1) := by decide +kernel
theorem dX7_turn_485 : decode cX7_turn 485 = .ok (.sipush 211, 3) := by decide +kernel
theorem dX7_turn_488 : decode cX7_turn 488 = .ok (.invokevirtual 199, 3) := by decide +kernel
theorem dX7_turn_491 : decode cX7_turn 491 = .ok (.goto 228, 3) := by decide +kernel
theorem dX7_turn_494 : decode cX7_turn 494 = .ok (.iload_n 2, 1) := by decide +kernel
theorem dX7_turn_495 : decode cX7_turn 495 = .ok (.bipush 44, 2) := by decide +kernel
theorem dX7_turn_497 : decode cX7_turn 497 = .ok (.if_icmp .ne 222, 3) := by decide +kernel
theorem dX7_turn_500 : decode cX7_turn 500 = .ok (.aload_n 0, 1) := by decide +kernel
theorem dX7_turn_501 : decode cX7_turn 501 = .ok (.invokevirtual 206, 3) := by decide +kernel
theorem dX7_turn_504 : decode cX7_turn 504 = .ok (.aload_n 0, 1) := by decide +kernel
theorem dX7_turn_505 : decode cX7_turn 505 = .ok (.sipush 210, 3) := by decide +kernel
theorem dX7_turn_508 : decode cX7_turn 508 = .ok (.invokevirtual 199, 3) := by decide +kernel
theorem dX7_turn_511 : decode cX7_turn 511 = .ok (.goto 208, 3) := by decide +kernel
theorem dX7_turn_514 : decode cX7_turn 514 = .ok (.aload_n 0, 1) := by decide +kernel
theorem dX7_turn_515 : decode cX7_turn 515 = .ok (.getfield 38, 3) := by decide +kernel
theorem dX7_turn_518 : decode cX7_turn 518 = .ok (.aload_n 0, 1) := by decide +kernel
theorem dX7_turn_519 : decode cX7_turn 519 = .ok (.getfield 261, 3) := by decide +kernel
theorem dX7_turn_522 : decode cX7_turn 522 = .ok (.aload_n 0, 1) := by decide +kernel
theorem dX7_turn_523 : decode cX7_turn 523 = .ok (.getfield 183, 3) := by decide +kernel
theorem dX7_turn_526 : decode cX7_turn 526 = .ok (.iastore, 1) := by decide +kernel
theorem dX7_turn_527 : decode cX7_turn 527 = .ok (.aload_n 0, 1) := by decide +kernel
theorem dX7_turn_528 : decode cX7_turn 528 = .ok (.getfield 41, 3) := by decide +kernel
theorem dX7_turn_531 : decode cX7_turn 531 = .ok (.aload_n 0, 1) := by decide +kernel
theorem dX7_turn_532 : decode cX7_turn 532 = .ok (.getfield 261, 3) := by decide +kernel
theorem dX7_turn_535 : decode cX7_turn 535 = .ok (.aload_n 0, 1) := by decide +kernel
theorem dX7_turn_536 : decode cX7_turn 536 = .ok (.getfield 219, 3) := by decide +kernel
theorem dX7_turn_539 : decode cX7_turn 539 = .ok (.iastore, 1) := by decide +kernel
theorem dX7_turn_540 : decode cX7_turn 540 = .ok (.aload_n 0, 1) := by decide +kernel
theorem dX7_turn_541 : decode cX7_turn 541 = .ok (.dup, 1) := by decide +kernel
theorem dX7_turn_542 : decode cX7_turn 542 = .ok (.getfield 261, 3) := by decide +kernel
theorem dX7_turn_545 : decode cX7_turn 545 = .ok (.iconst 1, 1) := by decide +kernel
theorem dX7_turn_546 : decode cX7_turn 546 = .ok (.iadd, 1) := by decide +kernel
theorem dX7_turn_547 : decode cX7_turn 547 = .ok (.putfield 261, 3) := by decide +kernel
theorem dX7_turn_550 : decode cX7_turn 550 = .ok (.aload_n 0, 1) := by decide +kernel
theorem dX7_turn_551 : decode cX7_turn 551 = .ok (.aload_n 0, 1) := by decide +kernel
theorem dX7_turn_552 : decode cX7_turn 552 = .ok (.getfield 209, 3) := by decide +kernel
theorem dX7_turn_555 : decode cX7_turn 555 = .ok (.ifCond .eq 8, 3) := by decide +kernel
theorem dX7_turn_558 : decode cX7_turn 558 = .ok (.bipush 10, 2) := by decide +kernel
theorem dX7_turn_560 : decode cX7_turn 560 = .ok (.goto 5, 3) := by decide +kernel
theorem dX7_turn_563 : decode cX7_turn 563 = .ok (.bipush 9, 2) := by decide +kernel
theorem dX7_turn_565 : decode cX7_turn 565 = .ok (.aload_n 0, 1) := by decide +kernel
theorem dX7_turn_566 : decode cX7_turn 566 = .ok (.getfield 213, 3) := by decide +kernel
theorem dX7_turn_569 : decode cX7_turn 569 = .ok (.aload_n 0, 1) := by decide +kernel
theorem dX7_turn_570 : decode cX7_turn 570 = .ok (.getfield 216, 3) := by decide +kernel
theorem dX7_turn_573 : decode cX7_turn 573 = .ok (.invokevirtual 232, 3) := by decide +kernel
theorem dX7_turn_576 : decode cX7_turn 576 = .ok (.goto 143, 3) := by decide +kernel
theorem dX7_turn_579 : decode cX7_turn 579 = .ok (.aload_n 0, 1) := by decide +kernel
theorem dX7_turn_580 : decode cX7_turn 580 = .ok (.sipush 212, 3) := by decide +kernel
theorem dX7_turn_583 : decode cX7_turn 583 = .ok (.invokevirtual 199, 3) := by decide +kernel
theorem dX7_turn_586 : decode cX7_turn 586 = .ok (.aload_n 0, 1) := by decide +kernel
theorem dX7_turn_587 : decode cX7_turn 587 = .ok (.sipush 213, 3) := by decide +kernel
theorem dX7_turn_590 : decode cX7_turn 590 = .ok (.invokevirtual 199, 3) := by decide +kernel
theorem dX7_turn_593 : decode cX7_turn 593 = .ok (.goto 126, 3) := by decide +kernel
theorem dX7_turn_596 : decode cX7_turn 596 = .ok (.aload_n 0, 1) := by decide +kernel
theorem dX7_turn_597 : decode cX7_turn 597 = .ok (.iload_n 2, 1) := by decide +kernel
theorem dX7_turn_598 : decode cX7_turn 598 = .ok (.iload_n 2, 1) := by decide +kernel
theorem dX7_turn_599 : decode cX7_turn 599 = .ok (.bipush 60, 2) := by decide +kernel
theorem dX7_turn_601 : decode cX7_turn 601 = .ok (.if_icmp .eq 9, 3) := by decide +kernel
theorem dX7_turn_604 : decode cX7_turn 604 = .ok (.iload_n 2, 1) := by decide +kernel
theorem dX7_turn_605 : decode cX7_turn 605 = .ok (.bipush 61, 2) := by decide +kernel
theorem dX7_turn_607 : decode cX7_turn 607 = .ok (.if_icmp .ne 7, 3) := by decide +kernel
theorem dX7_turn_610 : decode cX7_turn 610 = .ok (.iconst 1, 1) := by decide +kernel
theorem dX7_turn_611 : decode cX7_turn 611 = .ok (.goto 4, 3) := by decide +kernel
theorem dX7_turn_614 : decode cX7_turn 614 = .ok (.iconst 0, 1) := by decide +kernel
theorem dX7_turn_615 : decode cX7_turn 615 = .ok (.sipush 213, 3) := by decide +kernel
theorem dX7_turn_618 : decode cX7_turn 618 = .ok (.iconst 0, 1) := by decide +kernel
theorem dX7_turn_619 : decode cX7_turn 619 = .ok (.invokevirtual 264, 3) := by decide +kernel
theorem dX7_turn_622 : decode cX7_turn 622 = .ok (.goto 97, 3) := by decide +kernel
theorem dX7_turn_625 : decode cX7_turn 625 = .ok (.aload_n 0, 1) := by decide +kernel
theorem dX7_turn_626 : decode cX7_turn 626 = .ok (.sipush 214, 3) := by decide +kernel
theorem dX7_turn_629 : decode cX7_turn 629 = .ok (.invokevirtual 199, 3) := by decide +kernel
theorem dX7_turn_632 : decode cX7_turn 632 = .ok (.aload_n 0, 1) := by decide +kernel
theorem dX7_turn_633 : decode cX7_turn 633 = .ok (.sipush 215, 3) := by decide +kernel
theorem dX7_turn_636 : decode cX7_turn 636 = .ok (.invokevirtual 199, 3) := by decide +kernel
theorem dX7_turn_639 : decode cX7_turn 639 = .ok (.goto 80, 3) := by decide +kernel
theorem dX7_turn_642 : decode cX7_turn 642 = .ok (.aload_n 0, 1) := by decide +kernel
theorem dX7_turn_643 : decode cX7_turn 643 = .ok (.iload_n 2, 1) := by decide +kernel
theorem dX7_turn_644 : decode cX7_turn 644 = .ok (.iload_n 2, 1) := by decide +kernel
theorem dX7_turn_645 : decode cX7_turn 645 = .ok (.bipush 43, 2) := by decide +kernel
theorem dX7_turn_647 : decode cX7_turn 647 = .ok (.if_icmp .eq 9, 3) := by decide +kernel
theorem dX7_turn_650 : decode cX7_turn 650 = .ok (.iload_n 2, 1) := by decide +kernel
theorem dX7_turn_651 : decode cX7_turn 651 = .ok (.bipush 45, 2) := by decide +kernel
theorem dX7_turn_653 : decode cX7_turn 653 = .ok (.if_icmp .ne 7, 3) := by decide +kernel
theorem dX7_turn_656 : decode cX7_turn 656 = .ok (.iconst 1, 1) := by decide +kernel
theorem dX7_turn_657 : decode cX7_turn 657 = .ok (.goto 4, 3) := by decide +kernel
theorem dX7_turn_660 : decode cX7_turn 660 = .ok (.iconst 0, 1) := by decide +kernel
theorem dX7_turn_661 : decode cX7_turn 661 = .ok (.sipush 215, 3) := by decide +kernel
theorem dX7_turn_664 : decode cX7_turn 664 = .ok (.sipush 214, 3) := by decide +kernel
theorem dX7_turn_667 : decode cX7_turn 667 = .ok (.invokevirtual 264, 3) := by decide +kernel
theorem dX7_turn_670 : decode cX7_turn 670 = .ok (.goto 49, 3) := by decide +kernel
theorem dX7_turn_673 : decode cX7_turn 673 = .ok (.aload_n 0, 1) := by decide +kernel
theorem dX7_turn_674 : decode cX7_turn 674 = .ok (.sipush 216, 3) := by decide +kernel
theorem dX7_turn_677 : decode cX7_turn 677 = .ok (.invokevirtual 199, 3) := by decide +kernel
theorem dX7_turn_680 : decode cX7_turn 680 = .ok (.aload_n 0, 1) := by decide +kernel
theorem dX7_turn_681 : decode cX7_turn 681 = .ok (.sipush 217, 3) := by decide +kernel
theorem dX7_turn_684 : decode cX7_turn 684 = .ok (.invokevirtual 199, 3) := by decide +kernel
theorem dX7_turn_687 : decode cX7_turn 687 = .ok (.goto 32, 3) := by decide +kernel
theorem dX7_turn_690 : decode cX7_turn 690 = .ok (.aload_n 0, 1) := by decide +kernel
theorem dX7_turn_691 : decode cX7_turn 691 = .ok (.iload_n 2, 1) := by decide +kernel
theorem dX7_turn_692 : decode cX7_turn 692 = .ok (.iload_n 2, 1) := by decide +kernel
theorem dX7_turn_693 : decode cX7_turn 693 = .ok (.bipush 42, 2) := by decide +kernel
theorem dX7_turn_695 : decode cX7_turn 695 = .ok (.if_icmp .ne 7, 3) := by decide +kernel
theorem dX7_turn_698 : decode cX7_turn 698 = .ok (.iconst 1, 1) := by decide +kernel
theorem dX7_turn_699 : decode cX7_turn 699 = .ok (.goto 4, 3) := by decide +kernel
theorem dX7_turn_702 : decode cX7_turn 702 = .ok (.iconst 0, 1) := by decide +kernel
theorem dX7_turn_703 : decode cX7_turn 703 = .ok (.sipush 217, 3) := by decide +kernel
theorem dX7_turn_706 : decode cX7_turn 706 = .ok (.sipush 216, 3) := by decide +kernel
theorem dX7_turn_709 : decode cX7_turn 709 = .ok (.invokevirtual 264, 3) := by decide +kernel
theorem dX7_turn_712 : decode cX7_turn 712 = .ok (.goto 7, 3) := by decide +kernel
theorem dX7_turn_715 : decode cX7_turn 715 = .ok (.aload_n 0, 1) := by decide +kernel
theorem dX7_turn_716 : decode cX7_turn 716 = .ok (.invokevirtual 268, 3) := by decide +kernel
theorem dX7_turn_719 : decode cX7_turn 719 = .ok (.return_, 1) := by decide +kernel
set_option maxHeartbeats 4000000 in
theorem C_m_turn {Γ : GT} {m sz : Nat} {x1 : Int32} {f : MF} {a : MA} {rz : Int32} {fz : MF} {az : MA} (h : m_turn x1 f a = some (rz, fz, az)) : CM Γ JX7_turn 5 [.ref m, .int x1] (mixM m f a sz) 0 0 (.returned none, mixM m fz az sz) := by
  refine CM.of (by decide +kernel) (Nat.le_of_ble_eq_true rfl) ?_
  unfold m_turn at h
  show Ex Γ JX7_turn 5 0 [(0, .ref m), (1, .int x1)] [] (mixM m f a sz) 0 0 _
  refine Ex_aload_n dX7_turn_0 rfl rfl ?_
  obtain ⟨r1, f2, a3, hc4, h⟩ := bnd_some h
  refine Em_callVi (C_m_here hc4) CV_X7_166 (by decide) rfl rfl (Nat.le_of_ble_eq_true rfl) dX7_turn_1 ?_
  refine Ex_istore_n dX7_turn_4 rfl (by decide) ?_
  refine Ex_iload_n dX7_turn_5 rfl rfl ?_
  by_cases cx : x1 = (200 : Int32)
  · have h := if_t h cx
    refine Ex_tableIn (tgt := 116) dX7_turn_6 (by rw [cx]; decide) (by rw [cx]; decide) (by rw [cx]; rfl) (by decide) ?_
    refine Ex_aload_n dX7_turn_116 rfl rfl ?_
    obtain ⟨r9, f10, a11, hc12, h⟩ := bnd_some h
    refine Em_callVv (C_m_more hc12) CV_X7_236 (by decide) rfl rfl (Nat.le_of_ble_eq_true rfl) dX7_turn_117 ?_
    refine Ex_goto (tgt := 719) dX7_turn_120 (by decide) ?_
    cases h
    exact Ex_return rfl dX7_turn_719
  have h := if_f h cx
  have n0 := lv_neT cx (a := 200) (by decide)
  by_cases cx : x1 = (201 : Int32)
  · have h := if_t h cx
    refine Ex_tableIn (tgt := 123) dX7_turn_6 (by rw [cx]; decide) (by rw [cx]; decide) (by rw [cx]; rfl) (by decide) ?_
    refine Ex_aload_n dX7_turn_123 rfl rfl ?_
    obtain ⟨r13, f14, a15, hc16, h⟩ := bnd_some h
    refine Em_callVv (C_m_procedure hc16) CV_X7_239 (by decide) rfl rfl (Nat.le_of_ble_eq_true rfl) dX7_turn_124 ?_
    refine Ex_goto (tgt := 719) dX7_turn_127 (by decide) ?_
    cases h
    exact Ex_return rfl dX7_turn_719
  have h := if_f h cx
  have n1 := lv_neT cx (a := 201) (by decide)
  by_cases cx : x1 = (202 : Int32)
  · have h := if_t h cx
    refine Ex_tableIn (tgt := 130) dX7_turn_6 (by rw [cx]; decide) (by rw [cx]; decide) (by rw [cx]; rfl) (by decide) ?_
    refine Ex_aload_n dX7_turn_130 rfl rfl ?_
    refine Em_get FO_X7_193 rfl dX7_turn_131 ?_
    refine Ex_iconst (v := 1) dX7_turn_134 (by decide) ?_
    refine Ex_icmp_le (tgt := 719) dX7_turn_135 (by decide) (fun c26 => ?_) (fun c26 => ?_)
    · have h := if_t h c26
      cases h
      exact Ex_return rfl dX7_turn_719
    · have h := if_f h c26
      refine Ex_iload_n dX7_turn_138 rfl rfl ?_
      obtain ⟨r17, f18, a19, hc20, h⟩ := bnd_some h
      refine Em_callSi (C_m_isVariable hc20) CS_X7_190 (by decide) rfl rfl (Nat.le_of_ble_eq_true rfl) dX7_turn_139 ?_
      refine Ex_if_eq (tgt := 719) dX7_turn_142 (by decide) (fun c25 => ?_) (fun c25 => ?_)
      · have h := if_t h c25
        cases h
        exact Ex_return rfl dX7_turn_719
      · have h := if_f h c25
        refine Ex_aload_n dX7_turn_145 rfl rfl ?_
        refine Ex_sipush (v := 204) dX7_turn_146 (by decide) ?_
        obtain ⟨r21, f22, a23, hc24, h⟩ := bnd_some h
        refine Em_callVv (C_m_push hc24) CV_X7_199 (by decide) rfl rfl (Nat.le_of_ble_eq_true rfl) dX7_turn_149 ?_
        refine Ex_goto (tgt := 719) dX7_turn_152 (by decide) ?_
        cases h
        exact Ex_return rfl dX7_turn_719
  have h := if_f h cx
  have n2 := lv_neT cx (a := 202) (by decide)
  by_cases cx : x1 = (203 : Int32)
  · have h := if_t h cx
    refine Ex_tableIn (tgt := 155) dX7_turn_6 (by rw [cx]; decide) (by rw [cx]; decide) (by rw [cx]; rfl) (by decide) ?_
    refine Ex_iload_n dX7_turn_155 rfl rfl ?_
    refine Ex_bipush (v := 44) dX7_turn_156 (by decide) ?_
    refine Ex_icmp_ne (tgt := 719) dX7_turn_158 (by decide) (fun c37 => ?_) (fun c37 => ?_)
    · have h := if_f h c37
      cases h
      exact Ex_return rfl dX7_turn_719
    · have h := if_t h c37
      refine Ex_aload_n dX7_turn_161 rfl rfl ?_
      refine Em_getA (j := 2) FO_X7_20 rfl rfl dX7_turn_162 ?_
      refine Ex_aload_n dX7_turn_165 rfl rfl ?_
      refine Em_get FO_X7_193 rfl dX7_turn_166 ?_
      refine Ex_iconst (v := 1) dX7_turn_169 (by decide) ?_
      refine Ex_isub dX7_turn_170 ?_
      obtain ⟨hb27, h⟩ := chk_some h
      refine Em_iald (by decide) rfl hb27 dX7_turn_171 ?_
      refine Ex_iconst (v := 3) dX7_turn_172 (by decide) ?_
      refine Ex_icmp_ge (tgt := 719) dX7_turn_173 (by decide) (fun c36 => ?_) (fun c36 => ?_)
      · have h := if_t h c36
        cases h
        exact Ex_return rfl dX7_turn_719
      · have h := if_f h c36
        refine Ex_aload_n dX7_turn_176 rfl rfl ?_
        obtain ⟨r28, f29, a30, hc31, h⟩ := bnd_some h
        refine Em_callVv (C_m_take hc31) CV_X7_206 (by decide) rfl rfl (Nat.le_of_ble_eq_true rfl) dX7_turn_177 ?_
        refine Ex_aload_n dX7_turn_180 rfl rfl ?_
        refine Ex_sipush (v := 204) dX7_turn_181 (by decide) ?_
        obtain ⟨r32, f33, a34, hc35, h⟩ := bnd_some h
        refine Em_callVv (C_m_push hc35) CV_X7_199 (by decide) rfl rfl (Nat.le_of_ble_eq_true rfl) dX7_turn_184 ?_
        refine Ex_goto (tgt := 719) dX7_turn_187 (by decide) ?_
        cases h
        exact Ex_return rfl dX7_turn_719
  have h := if_f h cx
  have n3 := lv_neT cx (a := 203) (by decide)
  by_cases cx : x1 = (204 : Int32)
  · have h := if_t h cx
    refine Ex_tableIn (tgt := 190) dX7_turn_6 (by rw [cx]; decide) (by rw [cx]; decide) (by rw [cx]; rfl) (by decide) ?_
    refine Ex_aload_n dX7_turn_190 rfl rfl ?_
    obtain ⟨r38, f39, a40, hc41, h⟩ := bnd_some h
    refine Em_callVv (C_m_parameter hc41) CV_X7_242 (by decide) rfl rfl (Nat.le_of_ble_eq_true rfl) dX7_turn_191 ?_
    refine Ex_goto (tgt := 719) dX7_turn_194 (by decide) ?_
    cases h
    exact Ex_return rfl dX7_turn_719
  have h := if_f h cx
  have n4 := lv_neT cx (a := 204) (by decide)
  by_cases cx : x1 = (205 : Int32)
  · have h := if_t h cx
    refine Ex_tableIn (tgt := 197) dX7_turn_6 (by rw [cx]; decide) (by rw [cx]; decide) (by rw [cx]; rfl) (by decide) ?_
    refine Ex_iload_n dX7_turn_197 rfl rfl ?_
    obtain ⟨r42, f43, a44, hc45, h⟩ := bnd_some h
    refine Em_callSi (C_m_isStatement hc45) CS_X7_245 (by decide) rfl rfl (Nat.le_of_ble_eq_true rfl) dX7_turn_198 ?_
    refine Ex_if_eq (tgt := 719) dX7_turn_201 (by decide) (fun c54 => ?_) (fun c54 => ?_)
    · have h := if_t h c54
      cases h
      exact Ex_return rfl dX7_turn_719
    · have h := if_f h c54
      refine Ex_aload_n dX7_turn_204 rfl rfl ?_
      refine Ex_sipush (v := 205) dX7_turn_205 (by decide) ?_
      obtain ⟨r46, f47, a48, hc49, h⟩ := bnd_some h
      refine Em_callVv (C_m_push hc49) CV_X7_199 (by decide) rfl rfl (Nat.le_of_ble_eq_true rfl) dX7_turn_208 ?_
      refine Ex_aload_n dX7_turn_211 rfl rfl ?_
      refine Ex_sipush (v := 206) dX7_turn_212 (by decide) ?_
      obtain ⟨r50, f51, a52, hc53, h⟩ := bnd_some h
      refine Em_callVv (C_m_push hc53) CV_X7_199 (by decide) rfl rfl (Nat.le_of_ble_eq_true rfl) dX7_turn_215 ?_
      refine Ex_goto (tgt := 719) dX7_turn_218 (by decide) ?_
      cases h
      exact Ex_return rfl dX7_turn_719
  have h := if_f h cx
  have n5 := lv_neT cx (a := 205) (by decide)
  by_cases cx : x1 = (206 : Int32)
  · have h := if_t h cx
    refine Ex_tableIn (tgt := 221) dX7_turn_6 (by rw [cx]; decide) (by rw [cx]; decide) (by rw [cx]; rfl) (by decide) ?_
    refine Ex_aload_n dX7_turn_221 rfl rfl ?_
    obtain ⟨r55, f56, a57, hc58, h⟩ := bnd_some h
    refine Em_callVv (C_m_statement hc58) CV_X7_248 (by decide) rfl rfl (Nat.le_of_ble_eq_true rfl) dX7_turn_222 ?_
    refine Ex_goto (tgt := 719) dX7_turn_225 (by decide) ?_
    cases h
    exact Ex_return rfl dX7_turn_719
  have h := if_f h cx
  have n6 := lv_neT cx (a := 206) (by decide)
  by_cases cx : x1 = (207 : Int32)
  · have h := if_t h cx
    refine Ex_tableIn (tgt := 236) dX7_turn_6 (by rw [cx]; decide) (by rw [cx]; decide) (by rw [cx]; rfl) (by decide) ?_
    refine Ex_iload_n dX7_turn_236 rfl rfl ?_
    refine Ex_bipush (v := 58) dX7_turn_237 (by decide) ?_
    refine Ex_icmp_ne (tgt := 335) dX7_turn_239 (by decide) (fun c94 => ?_) (fun c94 => ?_)
    · have h := if_f h c94
      refine Ex_aload_n dX7_turn_335 rfl rfl ?_
      refine Ex_dup dX7_turn_336 rfl ?_
      refine Em_get FO_X7_226 rfl dX7_turn_337 ?_
      refine Ex_iconst (v := 1) dX7_turn_340 (by decide) ?_
      refine Ex_isub dX7_turn_341 ?_
      refine Em_put FW_X7_226 rfl rfl rfl dX7_turn_342 ?_
      refine Ex_aload_n dX7_turn_345 rfl rfl ?_
      refine Ex_aload_n dX7_turn_346 rfl rfl ?_
      refine Em_getA (j := 11) FO_X7_47 rfl rfl dX7_turn_347 ?_
      refine Ex_aload_n dX7_turn_350 rfl rfl ?_
      refine Em_get FO_X7_226 rfl dX7_turn_351 ?_
      obtain ⟨hb59, h⟩ := chk_some h
      refine Em_iald (by decide) rfl hb59 dX7_turn_354 ?_
      refine Ex_aload_n dX7_turn_355 rfl rfl ?_
      refine Em_get FO_X7_183 rfl dX7_turn_356 ?_
      obtain ⟨r60, f61, a62, hc63, h⟩ := bnd_some h
      refine Em_callVv (C_m_patchTo hc63) CV_X7_251 (by decide) rfl rfl (Nat.le_of_ble_eq_true rfl) dX7_turn_359 ?_
      refine Ex_goto (tgt := 719) dX7_turn_362 (by decide) ?_
      cases h
      exact Ex_return rfl dX7_turn_719
    · have h := if_t h c94
      refine Ex_aload_n dX7_turn_242 rfl rfl ?_
      obtain ⟨r64, f65, a66, hc67, h⟩ := bnd_some h
      refine Em_callVv (C_m_take hc67) CV_X7_206 (by decide) rfl rfl (Nat.le_of_ble_eq_true rfl) dX7_turn_243 ?_
      refine Ex_aload_n dX7_turn_246 rfl rfl ?_
      refine Ex_sipush (v := 221) dX7_turn_247 (by decide) ?_
      obtain ⟨r68, f69, a70, hc71, h⟩ := bnd_some h
      refine Em_callVv (C_m_push hc71) CV_X7_199 (by decide) rfl rfl (Nat.le_of_ble_eq_true rfl) dX7_turn_250 ?_
      refine Ex_aload_n dX7_turn_253 rfl rfl ?_
      refine Ex_bipush (v := 125) dX7_turn_254 (by decide) ?_
      obtain ⟨r72, f73, a74, hc75, h⟩ := bnd_some h
      refine Em_callVv (C_m_push hc75) CV_X7_199 (by decide) rfl rfl (Nat.le_of_ble_eq_true rfl) dX7_turn_256 ?_
      refine Ex_aload_n dX7_turn_259 rfl rfl ?_
      refine Ex_sipush (v := 205) dX7_turn_260 (by decide) ?_
      obtain ⟨r76, f77, a78, hc79, h⟩ := bnd_some h
      refine Em_callVv (C_m_push hc79) CV_X7_199 (by decide) rfl rfl (Nat.le_of_ble_eq_true rfl) dX7_turn_263 ?_
      refine Ex_aload_n dX7_turn_266 rfl rfl ?_
      refine Ex_bipush (v := 123) dX7_turn_267 (by decide) ?_
      obtain ⟨r80, f81, a82, hc83, h⟩ := bnd_some h
      refine Em_callVv (C_m_push hc83) CV_X7_199 (by decide) rfl rfl (Nat.le_of_ble_eq_true rfl) dX7_turn_269 ?_
      refine Ex_aload_n dX7_turn_272 rfl rfl ?_
      refine Ex_dup dX7_turn_273 rfl ?_
      refine Em_get FO_X7_226 rfl dX7_turn_274 ?_
      refine Ex_iconst (v := 1) dX7_turn_277 (by decide) ?_
      refine Ex_isub dX7_turn_278 ?_
      refine Em_put FW_X7_226 rfl rfl rfl dX7_turn_279 ?_
      refine Ex_aload_n dX7_turn_282 rfl rfl ?_
      refine Ex_aload_n dX7_turn_283 rfl rfl ?_
      refine Em_getA (j := 11) FO_X7_47 rfl rfl dX7_turn_284 ?_
      refine Ex_aload_n dX7_turn_287 rfl rfl ?_
      refine Em_get FO_X7_226 rfl dX7_turn_288 ?_
      obtain ⟨hb84, h⟩ := chk_some h
      refine Em_iald (by decide) rfl hb84 dX7_turn_291 ?_
      refine Ex_aload_n dX7_turn_292 rfl rfl ?_
      refine Em_get FO_X7_183 rfl dX7_turn_293 ?_
      refine Ex_iconst (v := 1) dX7_turn_296 (by decide) ?_
      refine Ex_iadd dX7_turn_297 ?_
      obtain ⟨r85, f86, a87, hc88, h⟩ := bnd_some h
      refine Em_callVv (C_m_patchTo hc88) CV_X7_251 (by decide) rfl rfl (Nat.le_of_ble_eq_true rfl) dX7_turn_298 ?_
      refine Ex_aload_n dX7_turn_301 rfl rfl ?_
      refine Em_getA (j := 11) FO_X7_47 rfl rfl dX7_turn_302 ?_
      refine Ex_aload_n dX7_turn_305 rfl rfl ?_
      refine Em_get FO_X7_226 rfl dX7_turn_306 ?_
      refine Ex_aload_n dX7_turn_309 rfl rfl ?_
      refine Em_get FO_X7_183 rfl dX7_turn_310 ?_
      obtain ⟨hb89, h⟩ := chk_some h
      refine Em_iast (by decide) rfl hb89 dX7_turn_313 ?_
      refine Ex_aload_n dX7_turn_314 rfl rfl ?_
      refine Ex_dup dX7_turn_315 rfl ?_
      refine Em_get FO_X7_226 rfl dX7_turn_316 ?_
      refine Ex_iconst (v := 1) dX7_turn_319 (by decide) ?_
      refine Ex_iadd dX7_turn_320 ?_
      refine Em_put FW_X7_226 rfl rfl rfl dX7_turn_321 ?_
      refine Ex_aload_n dX7_turn_324 rfl rfl ?_
      refine Ex_bipush (v := 13) dX7_turn_325 (by decide) ?_
      refine Ex_iconst (v := 0) dX7_turn_327 (by decide) ?_
      refine Ex_iconst (v := 0) dX7_turn_328 (by decide) ?_
      obtain ⟨r90, f91, a92, hc93, h⟩ := bnd_some h
      refine Em_callVv (C_m_emit hc93) CV_X7_232 (by decide) rfl rfl (Nat.le_of_ble_eq_true rfl) dX7_turn_329 ?_
      refine Ex_goto (tgt := 719) dX7_turn_332 (by decide) ?_
      cases h
      exact Ex_return rfl dX7_turn_719
  have h := if_f h cx
  have n7 := lv_neT cx (a := 207) (by decide)
  by_cases cx : x1 = (208 : Int32)
  · have h := if_t h cx
    refine Ex_tableIn (tgt := 450) dX7_turn_6 (by rw [cx]; decide) (by rw [cx]; decide) (by rw [cx]; rfl) (by decide) ?_
    refine Ex_iload_n dX7_turn_450 rfl rfl ?_
    obtain ⟨r95, f96, a97, hc98, h⟩ := bnd_some h
    refine Em_callSi (C_m_begins hc98) CS_X7_258 (by decide) rfl rfl (Nat.le_of_ble_eq_true rfl) dX7_turn_451 ?_
    refine Ex_if_eq (tgt := 719) dX7_turn_454 (by decide) (fun c103 => ?_) (fun c103 => ?_)
    · have h := if_t h c103
      cases h
      exact Ex_return rfl dX7_turn_719
    · have h := if_f h c103
      refine Ex_aload_n dX7_turn_457 rfl rfl ?_
      refine Ex_sipush (v := 210) dX7_turn_458 (by decide) ?_
      obtain ⟨r99, f100, a101, hc102, h⟩ := bnd_some h
      refine Em_callVv (C_m_push hc102) CV_X7_199 (by decide) rfl rfl (Nat.le_of_ble_eq_true rfl) dX7_turn_461 ?_
      refine Ex_goto (tgt := 719) dX7_turn_464 (by decide) ?_
      cases h
      exact Ex_return rfl dX7_turn_719
  have h := if_f h cx
  have n8 := lv_neT cx (a := 208) (by decide)
  by_cases cx : x1 = (209 : Int32)
  · have h := if_t h cx
    refine Ex_tableIn (tgt := 494) dX7_turn_6 (by rw [cx]; decide) (by rw [cx]; decide) (by rw [cx]; rfl) (by decide) ?_
    refine Ex_iload_n dX7_turn_494 rfl rfl ?_
    refine Ex_bipush (v := 44) dX7_turn_495 (by decide) ?_
    refine Ex_icmp_ne (tgt := 719) dX7_turn_497 (by decide) (fun c112 => ?_) (fun c112 => ?_)
    · have h := if_f h c112
      cases h
      exact Ex_return rfl dX7_turn_719
    · have h := if_t h c112
      refine Ex_aload_n dX7_turn_500 rfl rfl ?_
      obtain ⟨r104, f105, a106, hc107, h⟩ := bnd_some h
      refine Em_callVv (C_m_take hc107) CV_X7_206 (by decide) rfl rfl (Nat.le_of_ble_eq_true rfl) dX7_turn_501 ?_
      refine Ex_aload_n dX7_turn_504 rfl rfl ?_
      refine Ex_sipush (v := 210) dX7_turn_505 (by decide) ?_
      obtain ⟨r108, f109, a110, hc111, h⟩ := bnd_some h
      refine Em_callVv (C_m_push hc111) CV_X7_199 (by decide) rfl rfl (Nat.le_of_ble_eq_true rfl) dX7_turn_508 ?_
      refine Ex_goto (tgt := 719) dX7_turn_511 (by decide) ?_
      cases h
      exact Ex_return rfl dX7_turn_719
  have h := if_f h cx
  have n9 := lv_neT cx (a := 209) (by decide)
  by_cases cx : x1 = (210 : Int32)
  · have h := if_t h cx
    refine Ex_tableIn (tgt := 467) dX7_turn_6 (by rw [cx]; decide) (by rw [cx]; decide) (by rw [cx]; rfl) (by decide) ?_
    refine Ex_aload_n dX7_turn_467 rfl rfl ?_
    refine Ex_dup dX7_turn_468 rfl ?_
    refine Em_get FO_X7_219 rfl dX7_turn_469 ?_
    refine Ex_iconst (v := 1) dX7_turn_472 (by decide) ?_
    refine Ex_iadd dX7_turn_473 ?_
    refine Em_put FW_X7_219 rfl rfl rfl dX7_turn_474 ?_
    refine Ex_aload_n dX7_turn_477 rfl rfl ?_
    refine Ex_sipush (v := 209) dX7_turn_478 (by decide) ?_
    obtain ⟨r113, f114, a115, hc116, h⟩ := bnd_some h
    refine Em_callVv (C_m_push hc116) CV_X7_199 (by decide) rfl rfl (Nat.le_of_ble_eq_true rfl) dX7_turn_481 ?_
    refine Ex_aload_n dX7_turn_484 rfl rfl ?_
    refine Ex_sipush (v := 211) dX7_turn_485 (by decide) ?_
    obtain ⟨r117, f118, a119, hc120, h⟩ := bnd_some h
    refine Em_callVv (C_m_push hc120) CV_X7_199 (by decide) rfl rfl (Nat.le_of_ble_eq_true rfl) dX7_turn_488 ?_
    refine Ex_goto (tgt := 719) dX7_turn_491 (by decide) ?_
    cases h
    exact Ex_return rfl dX7_turn_719
  have h := if_f h cx
  have n10 := lv_neT cx (a := 210) (by decide)
  by_cases cx : x1 = (211 : Int32)
  · have h := if_t h cx
    refine Ex_tableIn (tgt := 579) dX7_turn_6 (by rw [cx]; decide) (by rw [cx]; decide) (by rw [cx]; rfl) (by decide) ?_
    refine Ex_aload_n dX7_turn_579 rfl rfl ?_
    refine Ex_sipush (v := 212) dX7_turn_580 (by decide) ?_
    obtain ⟨r121, f122, a123, hc124, h⟩ := bnd_some h
    refine Em_callVv (C_m_push hc124) CV_X7_199 (by decide) rfl rfl (Nat.le_of_ble_eq_true rfl) dX7_turn_583 ?_
    refine Ex_aload_n dX7_turn_586 rfl rfl ?_
    refine Ex_sipush (v := 213) dX7_turn_587 (by decide) ?_
    obtain ⟨r125, f126, a127, hc128, h⟩ := bnd_some h
    refine Em_callVv (C_m_push hc128) CV_X7_199 (by decide) rfl rfl (Nat.le_of_ble_eq_true rfl) dX7_turn_590 ?_
    refine Ex_goto (tgt := 719) dX7_turn_593 (by decide) ?_
    cases h
    exact Ex_return rfl dX7_turn_719
  have h := if_f h cx
  have n11 := lv_neT cx (a := 211) (by decide)
  by_cases cx : x1 = (212 : Int32)
  · have h := if_t h cx
    refine Ex_tableIn (tgt := 596) dX7_turn_6 (by rw [cx]; decide) (by rw [cx]; decide) (by rw [cx]; rfl) (by decide) ?_
    refine Ex_aload_n dX7_turn_596 rfl rfl ?_
    refine Ex_iload_n dX7_turn_597 rfl rfl ?_
    refine Ex_iload_n dX7_turn_598 rfl rfl ?_
    refine Ex_bipush (v := 60) dX7_turn_599 (by decide) ?_
    refine Ex_icmp_eq (tgt := 610) dX7_turn_601 (by decide) (fun c142 => ?_) (fun c142 => ?_)
    · have h := if_t h c142
      refine Ex_iconst (v := 1) dX7_turn_610 (by decide) ?_
      refine Ex_goto (tgt := 615) dX7_turn_611 (by decide) ?_
      refine Ex_sipush (v := 213) dX7_turn_615 (by decide) ?_
      refine Ex_iconst (v := 0) dX7_turn_618 (by decide) ?_
      obtain ⟨r129, f130, a131, hc132, h⟩ := bnd_some h
      refine Em_callVv (C_m_between hc132) CV_X7_264 (by decide) rfl rfl (Nat.le_of_ble_eq_true rfl) dX7_turn_619 ?_
      refine Ex_goto (tgt := 719) dX7_turn_622 (by decide) ?_
      cases h
      exact Ex_return rfl dX7_turn_719
    · have h := if_f h c142
      refine Ex_iload_n dX7_turn_604 rfl rfl ?_
      refine Ex_bipush (v := 61) dX7_turn_605 (by decide) ?_
      refine Ex_icmp_ne (tgt := 614) dX7_turn_607 (by decide) (fun c141 => ?_) (fun c141 => ?_)
      · have h := if_f h c141
        refine Ex_iconst (v := 0) dX7_turn_614 (by decide) ?_
        refine Ex_sipush (v := 213) dX7_turn_615 (by decide) ?_
        refine Ex_iconst (v := 0) dX7_turn_618 (by decide) ?_
        obtain ⟨r133, f134, a135, hc136, h⟩ := bnd_some h
        refine Em_callVv (C_m_between hc136) CV_X7_264 (by decide) rfl rfl (Nat.le_of_ble_eq_true rfl) dX7_turn_619 ?_
        refine Ex_goto (tgt := 719) dX7_turn_622 (by decide) ?_
        cases h
        exact Ex_return rfl dX7_turn_719
      · have h := if_t h c141
        refine Ex_iconst (v := 1) dX7_turn_610 (by decide) ?_
        refine Ex_goto (tgt := 615) dX7_turn_611 (by decide) ?_
        refine Ex_sipush (v := 213) dX7_turn_615 (by decide) ?_
        refine Ex_iconst (v := 0) dX7_turn_618 (by decide) ?_
        obtain ⟨r137, f138, a139, hc140, h⟩ := bnd_some h
        refine Em_callVv (C_m_between hc140) CV_X7_264 (by decide) rfl rfl (Nat.le_of_ble_eq_true rfl) dX7_turn_619 ?_
        refine Ex_goto (tgt := 719) dX7_turn_622 (by decide) ?_
        cases h
        exact Ex_return rfl dX7_turn_719
  have h := if_f h cx
  have n12 := lv_neT cx (a := 212) (by decide)
  by_cases cx : x1 = (213 : Int32)
  · have h := if_t h cx
    refine Ex_tableIn (tgt := 625) dX7_turn_6 (by rw [cx]; decide) (by rw [cx]; decide) (by rw [cx]; rfl) (by decide) ?_
    refine Ex_aload_n dX7_turn_625 rfl rfl ?_
    refine Ex_sipush (v := 214) dX7_turn_626 (by decide) ?_
    obtain ⟨r143, f144, a145, hc146, h⟩ := bnd_some h
    refine Em_callVv (C_m_push hc146) CV_X7_199 (by decide) rfl rfl (Nat.le_of_ble_eq_true rfl) dX7_turn_629 ?_
    refine Ex_aload_n dX7_turn_632 rfl rfl ?_
    refine Ex_sipush (v := 215) dX7_turn_633 (by decide) ?_
    obtain ⟨r147, f148, a149, hc150, h⟩ := bnd_some h
    refine Em_callVv (C_m_push hc150) CV_X7_199 (by decide) rfl rfl (Nat.le_of_ble_eq_true rfl) dX7_turn_636 ?_
    refine Ex_goto (tgt := 719) dX7_turn_639 (by decide) ?_
    cases h
    exact Ex_return rfl dX7_turn_719
  have h := if_f h cx
  have n13 := lv_neT cx (a := 213) (by decide)
  by_cases cx : x1 = (214 : Int32)
  · have h := if_t h cx
    refine Ex_tableIn (tgt := 642) dX7_turn_6 (by rw [cx]; decide) (by rw [cx]; decide) (by rw [cx]; rfl) (by decide) ?_
    refine Ex_aload_n dX7_turn_642 rfl rfl ?_
    refine Ex_iload_n dX7_turn_643 rfl rfl ?_
    refine Ex_iload_n dX7_turn_644 rfl rfl ?_
    refine Ex_bipush (v := 43) dX7_turn_645 (by decide) ?_
    refine Ex_icmp_eq (tgt := 656) dX7_turn_647 (by decide) (fun c164 => ?_) (fun c164 => ?_)
    · have h := if_t h c164
      refine Ex_iconst (v := 1) dX7_turn_656 (by decide) ?_
      refine Ex_goto (tgt := 661) dX7_turn_657 (by decide) ?_
      refine Ex_sipush (v := 215) dX7_turn_661 (by decide) ?_
      refine Ex_sipush (v := 214) dX7_turn_664 (by decide) ?_
      obtain ⟨r151, f152, a153, hc154, h⟩ := bnd_some h
      refine Em_callVv (C_m_between hc154) CV_X7_264 (by decide) rfl rfl (Nat.le_of_ble_eq_true rfl) dX7_turn_667 ?_
      refine Ex_goto (tgt := 719) dX7_turn_670 (by decide) ?_
      cases h
      exact Ex_return rfl dX7_turn_719
    · have h := if_f h c164
      refine Ex_iload_n dX7_turn_650 rfl rfl ?_
      refine Ex_bipush (v := 45) dX7_turn_651 (by decide) ?_
      refine Ex_icmp_ne (tgt := 660) dX7_turn_653 (by decide) (fun c163 => ?_) (fun c163 => ?_)
      · have h := if_f h c163
        refine Ex_iconst (v := 0) dX7_turn_660 (by decide) ?_
        refine Ex_sipush (v := 215) dX7_turn_661 (by decide) ?_
        refine Ex_sipush (v := 214) dX7_turn_664 (by decide) ?_
        obtain ⟨r155, f156, a157, hc158, h⟩ := bnd_some h
        refine Em_callVv (C_m_between hc158) CV_X7_264 (by decide) rfl rfl (Nat.le_of_ble_eq_true rfl) dX7_turn_667 ?_
        refine Ex_goto (tgt := 719) dX7_turn_670 (by decide) ?_
        cases h
        exact Ex_return rfl dX7_turn_719
      · have h := if_t h c163
        refine Ex_iconst (v := 1) dX7_turn_656 (by decide) ?_
        refine Ex_goto (tgt := 661) dX7_turn_657 (by decide) ?_
        refine Ex_sipush (v := 215) dX7_turn_661 (by decide) ?_
        refine Ex_sipush (v := 214) dX7_turn_664 (by decide) ?_
        obtain ⟨r159, f160, a161, hc162, h⟩ := bnd_some h
        refine Em_callVv (C_m_between hc162) CV_X7_264 (by decide) rfl rfl (Nat.le_of_ble_eq_true rfl) dX7_turn_667 ?_
        refine Ex_goto (tgt := 719) dX7_turn_670 (by decide) ?_
        cases h
        exact Ex_return rfl dX7_turn_719
  have h := if_f h cx
  have n14 := lv_neT cx (a := 214) (by decide)
  by_cases cx : x1 = (215 : Int32)
  · have h := if_t h cx
    refine Ex_tableIn (tgt := 673) dX7_turn_6 (by rw [cx]; decide) (by rw [cx]; decide) (by rw [cx]; rfl) (by decide) ?_
    refine Ex_aload_n dX7_turn_673 rfl rfl ?_
    refine Ex_sipush (v := 216) dX7_turn_674 (by decide) ?_
    obtain ⟨r165, f166, a167, hc168, h⟩ := bnd_some h
    refine Em_callVv (C_m_push hc168) CV_X7_199 (by decide) rfl rfl (Nat.le_of_ble_eq_true rfl) dX7_turn_677 ?_
    refine Ex_aload_n dX7_turn_680 rfl rfl ?_
    refine Ex_sipush (v := 217) dX7_turn_681 (by decide) ?_
    obtain ⟨r169, f170, a171, hc172, h⟩ := bnd_some h
    refine Em_callVv (C_m_push hc172) CV_X7_199 (by decide) rfl rfl (Nat.le_of_ble_eq_true rfl) dX7_turn_684 ?_
    refine Ex_goto (tgt := 719) dX7_turn_687 (by decide) ?_
    cases h
    exact Ex_return rfl dX7_turn_719
  have h := if_f h cx
  have n15 := lv_neT cx (a := 215) (by decide)
  by_cases cx : x1 = (216 : Int32)
  · have h := if_t h cx
    refine Ex_tableIn (tgt := 690) dX7_turn_6 (by rw [cx]; decide) (by rw [cx]; decide) (by rw [cx]; rfl) (by decide) ?_
    refine Ex_aload_n dX7_turn_690 rfl rfl ?_
    refine Ex_iload_n dX7_turn_691 rfl rfl ?_
    refine Ex_iload_n dX7_turn_692 rfl rfl ?_
    refine Ex_bipush (v := 42) dX7_turn_693 (by decide) ?_
    refine Ex_icmp_ne (tgt := 702) dX7_turn_695 (by decide) (fun c181 => ?_) (fun c181 => ?_)
    · have h := if_f h c181
      refine Ex_iconst (v := 0) dX7_turn_702 (by decide) ?_
      refine Ex_sipush (v := 217) dX7_turn_703 (by decide) ?_
      refine Ex_sipush (v := 216) dX7_turn_706 (by decide) ?_
      obtain ⟨r173, f174, a175, hc176, h⟩ := bnd_some h
      refine Em_callVv (C_m_between hc176) CV_X7_264 (by decide) rfl rfl (Nat.le_of_ble_eq_true rfl) dX7_turn_709 ?_
      refine Ex_goto (tgt := 719) dX7_turn_712 (by decide) ?_
      cases h
      exact Ex_return rfl dX7_turn_719
    · have h := if_t h c181
      refine Ex_iconst (v := 1) dX7_turn_698 (by decide) ?_
      refine Ex_goto (tgt := 703) dX7_turn_699 (by decide) ?_
      refine Ex_sipush (v := 217) dX7_turn_703 (by decide) ?_
      refine Ex_sipush (v := 216) dX7_turn_706 (by decide) ?_
      obtain ⟨r177, f178, a179, hc180, h⟩ := bnd_some h
      refine Em_callVv (C_m_between hc180) CV_X7_264 (by decide) rfl rfl (Nat.le_of_ble_eq_true rfl) dX7_turn_709 ?_
      refine Ex_goto (tgt := 719) dX7_turn_712 (by decide) ?_
      cases h
      exact Ex_return rfl dX7_turn_719
  have h := if_f h cx
  have n16 := lv_neT cx (a := 216) (by decide)
  by_cases cx : x1 = (218 : Int32)
  · have h := if_t h cx
    refine Ex_tableIn (tgt := 228) dX7_turn_6 (by rw [cx]; decide) (by rw [cx]; decide) (by rw [cx]; rfl) (by decide) ?_
    refine Ex_aload_n dX7_turn_228 rfl rfl ?_
    refine Ex_iconst (v := 1) dX7_turn_229 (by decide) ?_
    obtain ⟨r182, f183, a184, hc185, h⟩ := bnd_some h
    refine Em_callVv (C_m_called hc185) CV_X7_222 (by decide) rfl rfl (Nat.le_of_ble_eq_true rfl) dX7_turn_230 ?_
    refine Ex_goto (tgt := 719) dX7_turn_233 (by decide) ?_
    cases h
    exact Ex_return rfl dX7_turn_719
  have h := if_f h cx
  have n18 := lv_neT cx (a := 218) (by decide)
  by_cases cx : x1 = (220 : Int32)
  · have h := if_t h cx
    refine Ex_tableIn (tgt := 395) dX7_turn_6 (by rw [cx]; decide) (by rw [cx]; decide) (by rw [cx]; rfl) (by decide) ?_
    refine Ex_aload_n dX7_turn_395 rfl rfl ?_
    obtain ⟨r186, f187, a188, hc189, h⟩ := bnd_some h
    refine Em_callVv (C_m_tested hc189) CV_X7_255 (by decide) rfl rfl (Nat.le_of_ble_eq_true rfl) dX7_turn_396 ?_
    refine Ex_goto (tgt := 719) dX7_turn_399 (by decide) ?_
    cases h
    exact Ex_return rfl dX7_turn_719
  have h := if_f h cx
  have n20 := lv_neT cx (a := 220) (by decide)
  by_cases cx : x1 = (221 : Int32)
  · have h := if_t h cx
    refine Ex_tableIn (tgt := 365) dX7_turn_6 (by rw [cx]; decide) (by rw [cx]; decide) (by rw [cx]; rfl) (by decide) ?_
    refine Ex_aload_n dX7_turn_365 rfl rfl ?_
    refine Ex_dup dX7_turn_366 rfl ?_
    refine Em_get FO_X7_226 rfl dX7_turn_367 ?_
    refine Ex_iconst (v := 1) dX7_turn_370 (by decide) ?_
    refine Ex_isub dX7_turn_371 ?_
    refine Em_put FW_X7_226 rfl rfl rfl dX7_turn_372 ?_
    refine Ex_aload_n dX7_turn_375 rfl rfl ?_
    refine Ex_aload_n dX7_turn_376 rfl rfl ?_
    refine Em_getA (j := 11) FO_X7_47 rfl rfl dX7_turn_377 ?_
    refine Ex_aload_n dX7_turn_380 rfl rfl ?_
    refine Em_get FO_X7_226 rfl dX7_turn_381 ?_
    obtain ⟨hb190, h⟩ := chk_some h
    refine Em_iald (by decide) rfl hb190 dX7_turn_384 ?_
    refine Ex_aload_n dX7_turn_385 rfl rfl ?_
    refine Em_get FO_X7_183 rfl dX7_turn_386 ?_
    obtain ⟨r191, f192, a193, hc194, h⟩ := bnd_some h
    refine Em_callVv (C_m_patchTo hc194) CV_X7_251 (by decide) rfl rfl (Nat.le_of_ble_eq_true rfl) dX7_turn_389 ?_
    refine Ex_goto (tgt := 719) dX7_turn_392 (by decide) ?_
    cases h
    exact Ex_return rfl dX7_turn_719
  have h := if_f h cx
  have n21 := lv_neT cx (a := 221) (by decide)
  by_cases cx : x1 = (222 : Int32)
  · have h := if_t h cx
    refine Ex_tableIn (tgt := 514) dX7_turn_6 (by rw [cx]; decide) (by rw [cx]; decide) (by rw [cx]; rfl) (by decide) ?_
    refine Ex_aload_n dX7_turn_514 rfl rfl ?_
    refine Em_getA (j := 8) FO_X7_38 rfl rfl dX7_turn_515 ?_
    refine Ex_aload_n dX7_turn_518 rfl rfl ?_
    refine Em_get FO_X7_261 rfl dX7_turn_519 ?_
    refine Ex_aload_n dX7_turn_522 rfl rfl ?_
    refine Em_get FO_X7_183 rfl dX7_turn_523 ?_
    obtain ⟨hb195, h⟩ := chk_some h
    refine Em_iast (by decide) rfl hb195 dX7_turn_526 ?_
    refine Ex_aload_n dX7_turn_527 rfl rfl ?_
    refine Em_getA (j := 9) FO_X7_41 rfl rfl dX7_turn_528 ?_
    refine Ex_aload_n dX7_turn_531 rfl rfl ?_
    refine Em_get FO_X7_261 rfl dX7_turn_532 ?_
    refine Ex_aload_n dX7_turn_535 rfl rfl ?_
    refine Em_get FO_X7_219 rfl dX7_turn_536 ?_
    obtain ⟨hb196, h⟩ := chk_some h
    refine Em_iast (by decide) rfl hb196 dX7_turn_539 ?_
    refine Ex_aload_n dX7_turn_540 rfl rfl ?_
    refine Ex_dup dX7_turn_541 rfl ?_
    refine Em_get FO_X7_261 rfl dX7_turn_542 ?_
    refine Ex_iconst (v := 1) dX7_turn_545 (by decide) ?_
    refine Ex_iadd dX7_turn_546 ?_
    refine Em_put FW_X7_261 rfl rfl rfl dX7_turn_547 ?_
    refine Ex_aload_n dX7_turn_550 rfl rfl ?_
    refine Ex_aload_n dX7_turn_551 rfl rfl ?_
    refine Em_get FO_X7_209 rfl dX7_turn_552 ?_
    refine Ex_if_eq (tgt := 563) dX7_turn_555 (by decide) (fun c205 => ?_) (fun c205 => ?_)
    · have h := if_t h c205
      refine Ex_bipush (v := 9) dX7_turn_563 (by decide) ?_
      refine Ex_aload_n dX7_turn_565 rfl rfl ?_
      refine Em_get FO_X7_213 rfl dX7_turn_566 ?_
      refine Ex_aload_n dX7_turn_569 rfl rfl ?_
      refine Em_get FO_X7_216 rfl dX7_turn_570 ?_
      obtain ⟨r197, f198, a199, hc200, h⟩ := bnd_some h
      refine Em_callVv (C_m_emit hc200) CV_X7_232 (by decide) rfl rfl (Nat.le_of_ble_eq_true rfl) dX7_turn_573 ?_
      refine Ex_goto (tgt := 719) dX7_turn_576 (by decide) ?_
      cases h
      exact Ex_return rfl dX7_turn_719
    · have h := if_f h c205
      refine Ex_bipush (v := 10) dX7_turn_558 (by decide) ?_
      refine Ex_goto (tgt := 565) dX7_turn_560 (by decide) ?_
      refine Ex_aload_n dX7_turn_565 rfl rfl ?_
      refine Em_get FO_X7_213 rfl dX7_turn_566 ?_
      refine Ex_aload_n dX7_turn_569 rfl rfl ?_
      refine Em_get FO_X7_216 rfl dX7_turn_570 ?_
      obtain ⟨r201, f202, a203, hc204, h⟩ := bnd_some h
      refine Em_callVv (C_m_emit hc204) CV_X7_232 (by decide) rfl rfl (Nat.le_of_ble_eq_true rfl) dX7_turn_573 ?_
      refine Ex_goto (tgt := 719) dX7_turn_576 (by decide) ?_
      cases h
      exact Ex_return rfl dX7_turn_719
  have h := if_f h cx
  have n22 := lv_neT cx (a := 222) (by decide)
  by_cases cx : x1 = (223 : Int32)
  · have h := if_t h cx
    refine Ex_tableIn (tgt := 402) dX7_turn_6 (by rw [cx]; decide) (by rw [cx]; decide) (by rw [cx]; rfl) (by decide) ?_
    refine Ex_aload_n dX7_turn_402 rfl rfl ?_
    refine Ex_dup dX7_turn_403 rfl ?_
    refine Em_get FO_X7_226 rfl dX7_turn_404 ?_
    refine Ex_iconst (v := 2) dX7_turn_407 (by decide) ?_
    refine Ex_isub dX7_turn_408 ?_
    refine Em_put FW_X7_226 rfl rfl rfl dX7_turn_409 ?_
    refine Ex_aload_n dX7_turn_412 rfl rfl ?_
    refine Ex_bipush (v := 13) dX7_turn_413 (by decide) ?_
    refine Ex_aload_n dX7_turn_415 rfl rfl ?_
    refine Em_getA (j := 11) FO_X7_47 rfl rfl dX7_turn_416 ?_
    refine Ex_aload_n dX7_turn_419 rfl rfl ?_
    refine Em_get FO_X7_226 rfl dX7_turn_420 ?_
    obtain ⟨hb206, h⟩ := chk_some h
    refine Em_iald (by decide) rfl hb206 dX7_turn_423 ?_
    refine Ex_iconst (v := 0) dX7_turn_424 (by decide) ?_
    obtain ⟨r207, f208, a209, hc210, h⟩ := bnd_some h
    refine Em_callVv (C_m_emit hc210) CV_X7_232 (by decide) rfl rfl (Nat.le_of_ble_eq_true rfl) dX7_turn_425 ?_
    refine Ex_aload_n dX7_turn_428 rfl rfl ?_
    refine Ex_aload_n dX7_turn_429 rfl rfl ?_
    refine Em_getA (j := 11) FO_X7_47 rfl rfl dX7_turn_430 ?_
    refine Ex_aload_n dX7_turn_433 rfl rfl ?_
    refine Em_get FO_X7_226 rfl dX7_turn_434 ?_
    refine Ex_iconst (v := 1) dX7_turn_437 (by decide) ?_
    refine Ex_iadd dX7_turn_438 ?_
    obtain ⟨hb211, h⟩ := chk_some h
    refine Em_iald (by decide) rfl hb211 dX7_turn_439 ?_
    refine Ex_aload_n dX7_turn_440 rfl rfl ?_
    refine Em_get FO_X7_183 rfl dX7_turn_441 ?_
    obtain ⟨r212, f213, a214, hc215, h⟩ := bnd_some h
    refine Em_callVv (C_m_patchTo hc215) CV_X7_251 (by decide) rfl rfl (Nat.le_of_ble_eq_true rfl) dX7_turn_444 ?_
    refine Ex_goto (tgt := 719) dX7_turn_447 (by decide) ?_
    cases h
    exact Ex_return rfl dX7_turn_719
  have h := if_f h cx
  have n23 := lv_neT cx (a := 223) (by decide)
  have kd : Ex Γ JX7_turn 5 715 [(0, .ref m), (1, .int x1), (2, .int r1)] [] (mixM m f2 a3 sz) 0 0 (.returned none, mixM m fz az sz) := by
    refine Ex_aload_n dX7_turn_715 rfl rfl ?_
    obtain ⟨r5, f6, a7, hc8, h⟩ := bnd_some h
    refine Em_callVv (C_m_atom hc8) CV_X7_268 (by decide) rfl rfl (Nat.le_of_ble_eq_true rfl) dX7_turn_716 ?_
    cases h
    exact Ex_return rfl dX7_turn_719
  by_cases cx : x1 = (217 : Int32)
  · refine Ex_tableIn (tgt := 715) dX7_turn_6 (by rw [cx]; decide) (by rw [cx]; decide) (by rw [cx]; rfl) (by decide) ?_
    exact kd.to rfl
  have n17 := lv_neT cx (a := 217) (by decide)
  by_cases cx : x1 = (219 : Int32)
  · refine Ex_tableIn (tgt := 715) dX7_turn_6 (by rw [cx]; decide) (by rw [cx]; decide) (by rw [cx]; rfl) (by decide) ?_
    exact kd.to rfl
  have n19 := lv_neT cx (a := 219) (by decide)
  refine Ex_tableOut (tgt := 715) dX7_turn_6 (by omega) (by decide) ?_
  exact kd.to rfl
theorem dX7_read_0 : decode cX7_read 0 = .ok (.aload_n 0, 1) := by decide +kernel
theorem dX7_read_1 : decode cX7_read 1 = .ok (.iconst 0, 1) := by decide +kernel
theorem dX7_read_2 : decode cX7_read 2 = .ok (.putfield 160, 3) := by decide +kernel
theorem dX7_read_5 : decode cX7_read 5 = .ok (.aload_n 0, 1) := by decide +kernel
theorem dX7_read_6 : decode cX7_read 6 = .ok (.iconst (-1), 1) := by decide +kernel
theorem dX7_read_7 : decode cX7_read 7 = .ok (.putfield 163, 3) := by decide +kernel
theorem dX7_read_10 : decode cX7_read 10 = .ok (.aload_n 0, 1) := by decide +kernel
theorem dX7_read_11 : decode cX7_read 11 = .ok (.iconst 0, 1) := by decide +kernel
theorem dX7_read_12 : decode cX7_read 12 = .ok (.putfield 170, 3) := by decide +kernel
theorem dX7_read_15 : decode cX7_read 15 = .ok (.aload_n 0, 1) := by decide +kernel
theorem dX7_read_16 : decode cX7_read 16 = .ok (.iconst 0, 1) := by decide +kernel
theorem dX7_read_17 : decode cX7_read 17 = .ok (.putfield 229, 3) := by decide +kernel
theorem dX7_read_20 : decode cX7_read 20 = .ok (.aload_n 0, 1) := by decide +kernel
theorem dX7_read_21 : decode cX7_read 21 = .ok (.iconst 0, 1) := by decide +kernel
theorem dX7_read_22 : decode cX7_read 22 = .ok (.putfield 193, 3) := by decide +kernel
theorem dX7_read_25 : decode cX7_read 25 = .ok (.aload_n 0, 1) := by decide +kernel
theorem dX7_read_26 : decode cX7_read 26 = .ok (.iconst 0, 1) := by decide +kernel
theorem dX7_read_27 : decode cX7_read 27 = .ok (.putfield 183, 3) := by decide +kernel
theorem dX7_read_30 : decode cX7_read 30 = .ok (.aload_n 0, 1) := by decide +kernel
theorem dX7_read_31 : decode cX7_read 31 = .ok (.iconst 0, 1) := by decide +kernel
theorem dX7_read_32 : decode cX7_read 32 = .ok (.putfield 261, 3) := by decide +kernel
theorem dX7_read_35 : decode cX7_read 35 = .ok (.aload_n 0, 1) := by decide +kernel
theorem dX7_read_36 : decode cX7_read 36 = .ok (.iconst 0, 1) := by decide +kernel
theorem dX7_read_37 : decode cX7_read 37 = .ok (.putfield 180, 3) := by decide +kernel
theorem dX7_read_40 : decode cX7_read 40 = .ok (.aload_n 0, 1) := by decide +kernel
theorem dX7_read_41 : decode cX7_read 41 = .ok (.iconst 0, 1) := by decide +kernel
theorem dX7_read_42 : decode cX7_read 42 = .ok (.putfield 226, 3) := by decide +kernel
theorem dX7_read_45 : decode cX7_read 45 = .ok (.aload_n 0, 1) := by decide +kernel
theorem dX7_read_46 : decode cX7_read 46 = .ok (.invokevirtual 177, 3) := by decide +kernel
theorem dX7_read_49 : decode cX7_read 49 = .ok (.aload_n 0, 1) := by decide +kernel
theorem dX7_read_50 : decode cX7_read 50 = .ok (.sipush 200, 3) := by decide +kernel
theorem dX7_read_53 : decode cX7_read 53 = .ok (.invokevirtual 199, 3) := by decide +kernel
theorem dX7_read_56 : decode cX7_read 56 = .ok (.aload_n 0, 1) := by decide +kernel
theorem dX7_read_57 : decode cX7_read 57 = .ok (.sipush 201, 3) := by decide +kernel
theorem dX7_read_60 : decode cX7_read 60 = .ok (.invokevirtual 199, 3) := by decide +kernel
theorem dX7_read_63 : decode cX7_read 63 = .ok (.aload_n 0, 1) := by decide +kernel
theorem dX7_read_64 : decode cX7_read 64 = .ok (.getfield 180, 3) := by decide +kernel
theorem dX7_read_67 : decode cX7_read 67 = .ok (.ifCond .le 137, 3) := by decide +kernel
theorem dX7_read_70 : decode cX7_read 70 = .ok (.aload_n 0, 1) := by decide +kernel
theorem dX7_read_71 : decode cX7_read 71 = .ok (.getfield 163, 3) := by decide +kernel
theorem dX7_read_74 : decode cX7_read 74 = .ok (.iconst (-1), 1) := by decide +kernel
theorem dX7_read_75 : decode cX7_read 75 = .ok (.if_icmp .ne 129, 3) := by decide +kernel
theorem dX7_read_78 : decode cX7_read 78 = .ok (.aload_n 0, 1) := by decide +kernel
theorem dX7_read_79 : decode cX7_read 79 = .ok (.dup, 1) := by decide +kernel
theorem dX7_read_80 : decode cX7_read 80 = .ok (.getfield 180, 3) := by decide +kernel
theorem dX7_read_83 : decode cX7_read 83 = .ok (.iconst 1, 1) := by decide +kernel
theorem dX7_read_84 : decode cX7_read 84 = .ok (.isub, 1) := by decide +kernel
theorem dX7_read_85 : decode cX7_read 85 = .ok (.putfield 180, 3) := by decide +kernel
theorem dX7_read_88 : decode cX7_read 88 = .ok (.aload_n 0, 1) := by decide +kernel
theorem dX7_read_89 : decode cX7_read 89 = .ok (.getfield 44, 3) := by decide +kernel
theorem dX7_read_92 : decode cX7_read 92 = .ok (.aload_n 0, 1) := by decide +kernel
theorem dX7_read_93 : decode cX7_read 93 = .ok (.getfield 180, 3) := by decide +kernel
theorem dX7_read_96 : decode cX7_read 96 = .ok (.iaload, 1) := by decide +kernel
theorem dX7_read_97 : decode cX7_read 97 = .ok (.istore_n 1, 1) := by decide +kernel
theorem dX7_read_98 : decode cX7_read 98 = .ok (.iload_n 1, 1) := by decide +kernel
theorem dX7_read_99 : decode cX7_read 99 = .ok (.sipush 1000, 3) := by decide +kernel
theorem dX7_read_102 : decode cX7_read 102 = .ok (.if_icmp .lt 61, 3) := by decide +kernel
theorem dX7_read_105 : decode cX7_read 105 = .ok (.iload_n 1, 1) := by decide +kernel
theorem dX7_read_106 : decode cX7_read 106 = .ok (.sipush 1000, 3) := by decide +kernel
theorem dX7_read_109 : decode cX7_read 109 = .ok (.isub, 1) := by decide +kernel
theorem dX7_read_110 : decode cX7_read 110 = .ok (.bipush 16, 2) := by decide +kernel
theorem dX7_read_112 : decode cX7_read 112 = .ok (.irem, 1) := by decide +kernel
theorem dX7_read_113 : decode cX7_read 113 = .ok (.istore_n 2, 1) := by decide +kernel
theorem dX7_read_114 : decode cX7_read 114 = .ok (.iload_n 1, 1) := by decide +kernel
theorem dX7_read_115 : decode cX7_read 115 = .ok (.sipush 1000, 3) := by decide +kernel
theorem dX7_read_118 : decode cX7_read 118 = .ok (.isub, 1) := by decide +kernel
theorem dX7_read_119 : decode cX7_read 119 = .ok (.bipush 16, 2) := by decide +kernel
theorem dX7_read_121 : decode cX7_read 121 = .ok (.idiv, 1) := by decide +kernel
theorem dX7_read_122 : decode cX7_read 122 = .ok (.istore_n 3, 1) := by decide +kernel
theorem dX7_read_123 : decode cX7_read 123 = .ok (.aload_n 0, 1) := by decide +kernel
theorem dX7_read_124 : decode cX7_read 124 = .ok (.iload_n 2, 1) := by decide +kernel
theorem dX7_read_125 : decode cX7_read 125 = .ok (.iload_n 2, 1) := by decide +kernel
theorem dX7_read_126 : decode cX7_read 126 = .ok (.iconst 4, 1) := by decide +kernel
theorem dX7_read_127 : decode cX7_read 127 = .ok (.if_icmp .eq 9, 3) := by decide +kernel
theorem dX7_read_130 : decode cX7_read 130 = .ok (.iload_n 2, 1) := by decide +kernel
theorem dX7_read_131 : decode cX7_read 131 = .ok (.bipush 6, 2) := by decide +kernel
theorem dX7_read_133 : decode cX7_read 133 = .ok (.if_icmp .ne 7, 3) := by decide +kernel
theorem dX7_read_136 : decode cX7_read 136 = .ok (.iconst 0, 1) := by decide +kernel
theorem dX7_read_137 : decode cX7_read 137 = .ok (.goto 4, 3) := by decide +kernel
theorem dX7_read_140 : decode cX7_read 140 = .ok (.iload_n 3, 1) := by decide +kernel
theorem dX7_read_141 : decode cX7_read 141 = .ok (.iload_n 2, 1) := by decide +kernel
theorem dX7_read_142 : decode cX7_read 142 = .ok (.iconst 4, 1) := by decide +kernel
theorem dX7_read_143 : decode cX7_read 143 = .ok (.if_icmp .eq 9, 3) := by decide +kernel
theorem dX7_read_146 : decode cX7_read 146 = .ok (.iload_n 2, 1) := by decide +kernel
theorem dX7_read_147 : decode cX7_read 147 = .ok (.bipush 6, 2) := by decide +kernel
theorem dX7_read_149 : decode cX7_read 149 = .ok (.if_icmp .ne 7, 3) := by decide +kernel
theorem dX7_read_152 : decode cX7_read 152 = .ok (.iload_n 3, 1) := by decide +kernel
theorem dX7_read_153 : decode cX7_read 153 = .ok (.goto 4, 3) := by decide +kernel
theorem dX7_read_156 : decode cX7_read 156 = .ok (.iconst 0, 1) := by decide +kernel
theorem dX7_read_157 : decode cX7_read 157 = .ok (.invokevirtual 232, 3) := by decide +kernel
theorem dX7_read_160 : decode cX7_read 160 = .ok (.goto 41, 3) := by decide +kernel
theorem dX7_read_163 : decode cX7_read 163 = .ok (.iload_n 1, 1) := by decide +kernel
theorem dX7_read_164 : decode cX7_read 164 = .ok (.sipush 200, 3) := by decide +kernel
theorem dX7_read_167 : decode cX7_read 167 = .ok (.if_icmp .lt 11, 3) := by decide +kernel
theorem dX7_read_170 : decode cX7_read 170 = .ok (.aload_n 0, 1) := by decide +kernel
theorem dX7_read_171 : decode cX7_read 171 = .ok (.iload_n 1, 1) := by decide +kernel
theorem dX7_read_172 : decode cX7_read 172 = .ok (.invokevirtual 271, 3) := by decide +kernel
theorem dX7_read_175 : decode cX7_read 175 = .ok (.goto 26, 3) := by decide +kernel
theorem dX7_read_178 : decode cX7_read 178 = .ok (.aload_n 0, 1) := by decide +kernel
theorem dX7_read_179 : decode cX7_read 179 = .ok (.invokevirtual 166, 3) := by decide +kernel
theorem dX7_read_182 : decode cX7_read 182 = .ok (.iload_n 1, 1) := by decide +kernel
theorem dX7_read_183 : decode cX7_read 183 = .ok (.if_icmp .ne 10, 3) := by decide +kernel
theorem dX7_read_186 : decode cX7_read 186 = .ok (.aload_n 0, 1) := by decide +kernel
theorem dX7_read_187 : decode cX7_read 187 = .ok (.invokevirtual 206, 3) := by decide +kernel
theorem dX7_read_190 : decode cX7_read 190 = .ok (.goto 11, 3) := by decide +kernel
theorem dX7_read_193 : decode cX7_read 193 = .ok (.aload_n 0, 1) := by decide +kernel
theorem dX7_read_194 : decode cX7_read 194 = .ok (.aload_n 0, 1) := by decide +kernel
theorem dX7_read_195 : decode cX7_read 195 = .ok (.getfield 160, 3) := by decide +kernel
theorem dX7_read_198 : decode cX7_read 198 = .ok (.invokevirtual 173, 3) := by decide +kernel
theorem dX7_read_201 : decode cX7_read 201 = .ok (.goto (-138), 3) := by decide +kernel
theorem dX7_read_204 : decode cX7_read 204 = .ok (.aload_n 0, 1) := by decide +kernel
theorem dX7_read_205 : decode cX7_read 205 = .ok (.getfield 163, 3) := by decide +kernel
theorem dX7_read_208 : decode cX7_read 208 = .ok (.iconst (-1), 1) := by decide +kernel
theorem dX7_read_209 : decode cX7_read 209 = .ok (.if_icmp .ne 7, 3) := by decide +kernel
theorem dX7_read_212 : decode cX7_read 212 = .ok (.iconst 1, 1) := by decide +kernel
theorem dX7_read_213 : decode cX7_read 213 = .ok (.goto 4, 3) := by decide +kernel
theorem dX7_read_216 : decode cX7_read 216 = .ok (.iconst 0, 1) := by decide +kernel
theorem dX7_read_217 : decode cX7_read 217 = .ok (.ireturn, 1) := by decide +kernel
set_option maxHeartbeats 4000000 in
theorem Wm_read_63 {Γ : GT} {m sz : Nat} : ∀ (n : Nat) {f : MF} {a : MA} {rz : Int32} {fz : MF} {az : MA} (h : m_read_63 n f a = some (rz, fz, az)), Ex Γ JX7_read 6 63 [(0, .ref m)] [] (mixM m f a sz) 0 0 (.returned (some (.int rz)), mixM m fz az sz) := by
  intro n
  induction n with
  | zero => intro f a rz fz az h; cases h
  | succ n ih =>
    intro f a rz fz az h
    rw [m_read_63] at h
    refine Ex_aload_n dX7_read_63 rfl rfl ?_
    refine Em_get FO_X7_180 rfl dX7_read_64 ?_
    refine Ex_if_le (tgt := 204) dX7_read_67 (by decide) (fun c80 => ?_) (fun c80 => ?_)
    · have h := if_t h c80
      refine Ex_aload_n dX7_read_204 rfl rfl ?_
      refine Em_get FO_X7_163 rfl dX7_read_205 ?_
      refine Ex_iconst (v := -1) dX7_read_208 (by decide) ?_
      refine Ex_icmp_ne (tgt := 216) dX7_read_209 (by decide) (fun c13 => ?_) (fun c13 => ?_)
      · have h := if_f h c13
        refine Ex_iconst (v := 0) dX7_read_216 (by decide) ?_
        cases h
        exact Ex_zreturn rfl rfl dX7_read_217
      · have h := if_t h c13
        refine Ex_iconst (v := 1) dX7_read_212 (by decide) ?_
        refine Ex_goto (tgt := 217) dX7_read_213 (by decide) ?_
        cases h
        exact Ex_zreturn rfl rfl dX7_read_217
    · have h := if_f h c80
      refine Ex_aload_n dX7_read_70 rfl rfl ?_
      refine Em_get FO_X7_163 rfl dX7_read_71 ?_
      refine Ex_iconst (v := -1) dX7_read_74 (by decide) ?_
      refine Ex_icmp_ne (tgt := 204) dX7_read_75 (by decide) (fun c79 => ?_) (fun c79 => ?_)
      · have h := if_f h c79
        refine Ex_aload_n dX7_read_204 rfl rfl ?_
        refine Em_get FO_X7_163 rfl dX7_read_205 ?_
        refine Ex_iconst (v := -1) dX7_read_208 (by decide) ?_
        refine Ex_icmp_ne (tgt := 216) dX7_read_209 (by decide) (fun c14 => ?_) (fun c14 => ?_)
        · have h := if_f h c14
          refine Ex_iconst (v := 0) dX7_read_216 (by decide) ?_
          cases h
          exact Ex_zreturn rfl rfl dX7_read_217
        · have h := if_t h c14
          refine Ex_iconst (v := 1) dX7_read_212 (by decide) ?_
          refine Ex_goto (tgt := 217) dX7_read_213 (by decide) ?_
          cases h
          exact Ex_zreturn rfl rfl dX7_read_217
      · have h := if_t h c79
        refine Ex_aload_n dX7_read_78 rfl rfl ?_
        refine Ex_dup dX7_read_79 rfl ?_
        refine Em_get FO_X7_180 rfl dX7_read_80 ?_
        refine Ex_iconst (v := 1) dX7_read_83 (by decide) ?_
        refine Ex_isub dX7_read_84 ?_
        refine Em_put FW_X7_180 rfl rfl rfl dX7_read_85 ?_
        refine Ex_aload_n dX7_read_88 rfl rfl ?_
        refine Em_getA (j := 10) FO_X7_44 rfl rfl dX7_read_89 ?_
        refine Ex_aload_n dX7_read_92 rfl rfl ?_
        refine Em_get FO_X7_180 rfl dX7_read_93 ?_
        obtain ⟨hb15, h⟩ := chk_some h
        refine Em_iald (by decide) rfl hb15 dX7_read_96 ?_
        refine Ex_istore_n dX7_read_97 rfl (by decide) ?_
        refine Ex_iload_n dX7_read_98 rfl rfl ?_
        refine Ex_sipush (v := 1000) dX7_read_99 (by decide) ?_
        refine Ex_icmp_lt (tgt := 163) dX7_read_102 (by decide) (fun c78 => ?_) (fun c78 => ?_)
        · have h := if_t h c78
          refine Ex_iload_n dX7_read_163 rfl rfl ?_
          refine Ex_sipush (v := 200) dX7_read_164 (by decide) ?_
          refine Ex_icmp_lt (tgt := 178) dX7_read_167 (by decide) (fun c33 => ?_) (fun c33 => ?_)
          · have h := if_t h c33
            refine Ex_aload_n dX7_read_178 rfl rfl ?_
            obtain ⟨r16, f17, a18, hc19, h⟩ := bnd_some h
            refine Em_callVi (C_m_here hc19) CV_X7_166 (by decide) rfl rfl (Nat.le_of_ble_eq_true rfl) dX7_read_179 ?_
            refine Ex_iload_n dX7_read_182 rfl rfl ?_
            refine Ex_icmp_ne (tgt := 193) dX7_read_183 (by decide) (fun c28 => ?_) (fun c28 => ?_)
            · have h := if_f h c28
              refine Ex_aload_n dX7_read_193 rfl rfl ?_
              refine Ex_aload_n dX7_read_194 rfl rfl ?_
              refine Em_get FO_X7_160 rfl dX7_read_195 ?_
              obtain ⟨r20, f21, a22, hc23, h⟩ := bnd_some h
              refine Em_callVv (C_m_refuse hc23) CV_X7_173 (by decide) rfl rfl (Nat.le_of_ble_eq_true rfl) dX7_read_198 ?_
              refine Ex_goto (tgt := 63) dX7_read_201 (by decide) ?_
              exact (ih h).to rfl
            · have h := if_t h c28
              refine Ex_aload_n dX7_read_186 rfl rfl ?_
              obtain ⟨r24, f25, a26, hc27, h⟩ := bnd_some h
              refine Em_callVv (C_m_take hc27) CV_X7_206 (by decide) rfl rfl (Nat.le_of_ble_eq_true rfl) dX7_read_187 ?_
              refine Ex_goto (tgt := 201) dX7_read_190 (by decide) ?_
              refine Ex_goto (tgt := 63) dX7_read_201 (by decide) ?_
              exact (ih h).to rfl
          · have h := if_f h c33
            refine Ex_aload_n dX7_read_170 rfl rfl ?_
            refine Ex_iload_n dX7_read_171 rfl rfl ?_
            obtain ⟨r29, f30, a31, hc32, h⟩ := bnd_some h
            refine Em_callVv (C_m_turn hc32) CV_X7_271 (by decide) rfl rfl (Nat.le_of_ble_eq_true rfl) dX7_read_172 ?_
            refine Ex_goto (tgt := 201) dX7_read_175 (by decide) ?_
            refine Ex_goto (tgt := 63) dX7_read_201 (by decide) ?_
            exact (ih h).to rfl
        · have h := if_f h c78
          refine Ex_iload_n dX7_read_105 rfl rfl ?_
          refine Ex_sipush (v := 1000) dX7_read_106 (by decide) ?_
          refine Ex_isub dX7_read_109 ?_
          refine Ex_bipush (v := 16) dX7_read_110 (by decide) ?_
          refine Ex_irem dX7_read_112 (by decide) ?_
          refine Ex_istore_n dX7_read_113 rfl (by decide) ?_
          refine Ex_iload_n dX7_read_114 rfl rfl ?_
          refine Ex_sipush (v := 1000) dX7_read_115 (by decide) ?_
          refine Ex_isub dX7_read_118 ?_
          refine Ex_bipush (v := 16) dX7_read_119 (by decide) ?_
          refine Ex_idiv dX7_read_121 (by decide) ?_
          refine Ex_istore_n dX7_read_122 rfl (by decide) ?_
          refine Ex_aload_n dX7_read_123 rfl rfl ?_
          refine Ex_iload_n dX7_read_124 rfl rfl ?_
          refine Ex_iload_n dX7_read_125 rfl rfl ?_
          refine Ex_iconst (v := 4) dX7_read_126 (by decide) ?_
          refine Ex_icmp_eq (tgt := 136) dX7_read_127 (by decide) (fun c77 => ?_) (fun c77 => ?_)
          · have h := if_t h c77
            refine Ex_iconst (v := 0) dX7_read_136 (by decide) ?_
            refine Ex_goto (tgt := 141) dX7_read_137 (by decide) ?_
            refine Ex_iload_n dX7_read_141 rfl rfl ?_
            refine Ex_iconst (v := 4) dX7_read_142 (by decide) ?_
            refine Ex_icmp_eq (tgt := 152) dX7_read_143 (by decide) (fun c47 => ?_) (fun c47 => ?_)
            · have h := if_t h c47
              refine Ex_iload_n dX7_read_152 rfl rfl ?_
              refine Ex_goto (tgt := 157) dX7_read_153 (by decide) ?_
              obtain ⟨r34, f35, a36, hc37, h⟩ := bnd_some h
              refine Em_callVv (C_m_emit hc37) CV_X7_232 (by decide) rfl rfl (Nat.le_of_ble_eq_true rfl) dX7_read_157 ?_
              refine Ex_goto (tgt := 201) dX7_read_160 (by decide) ?_
              refine Ex_goto (tgt := 63) dX7_read_201 (by decide) ?_
              exact (ih h).to rfl
            · have h := if_f h c47
              refine Ex_iload_n dX7_read_146 rfl rfl ?_
              refine Ex_bipush (v := 6) dX7_read_147 (by decide) ?_
              refine Ex_icmp_ne (tgt := 156) dX7_read_149 (by decide) (fun c46 => ?_) (fun c46 => ?_)
              · have h := if_f h c46
                refine Ex_iconst (v := 0) dX7_read_156 (by decide) ?_
                obtain ⟨r38, f39, a40, hc41, h⟩ := bnd_some h
                refine Em_callVv (C_m_emit hc41) CV_X7_232 (by decide) rfl rfl (Nat.le_of_ble_eq_true rfl) dX7_read_157 ?_
                refine Ex_goto (tgt := 201) dX7_read_160 (by decide) ?_
                refine Ex_goto (tgt := 63) dX7_read_201 (by decide) ?_
                exact (ih h).to rfl
              · have h := if_t h c46
                refine Ex_iload_n dX7_read_152 rfl rfl ?_
                refine Ex_goto (tgt := 157) dX7_read_153 (by decide) ?_
                obtain ⟨r42, f43, a44, hc45, h⟩ := bnd_some h
                refine Em_callVv (C_m_emit hc45) CV_X7_232 (by decide) rfl rfl (Nat.le_of_ble_eq_true rfl) dX7_read_157 ?_
                refine Ex_goto (tgt := 201) dX7_read_160 (by decide) ?_
                refine Ex_goto (tgt := 63) dX7_read_201 (by decide) ?_
                exact (ih h).to rfl
          · have h := if_f h c77
            refine Ex_iload_n dX7_read_130 rfl rfl ?_
            refine Ex_bipush (v := 6) dX7_read_131 (by decide) ?_
            refine Ex_icmp_ne (tgt := 140) dX7_read_133 (by decide) (fun c76 => ?_) (fun c76 => ?_)
            · have h := if_f h c76
              refine Ex_iload_n dX7_read_140 rfl rfl ?_
              refine Ex_iload_n dX7_read_141 rfl rfl ?_
              refine Ex_iconst (v := 4) dX7_read_142 (by decide) ?_
              refine Ex_icmp_eq (tgt := 152) dX7_read_143 (by decide) (fun c61 => ?_) (fun c61 => ?_)
              · have h := if_t h c61
                refine Ex_iload_n dX7_read_152 rfl rfl ?_
                refine Ex_goto (tgt := 157) dX7_read_153 (by decide) ?_
                obtain ⟨r48, f49, a50, hc51, h⟩ := bnd_some h
                refine Em_callVv (C_m_emit hc51) CV_X7_232 (by decide) rfl rfl (Nat.le_of_ble_eq_true rfl) dX7_read_157 ?_
                refine Ex_goto (tgt := 201) dX7_read_160 (by decide) ?_
                refine Ex_goto (tgt := 63) dX7_read_201 (by decide) ?_
                exact (ih h).to rfl
              · have h := if_f h c61
                refine Ex_iload_n dX7_read_146 rfl rfl ?_
                refine Ex_bipush (v := 6) dX7_read_147 (by decide) ?_
                refine Ex_icmp_ne (tgt := 156) dX7_read_149 (by decide) (fun c60 => ?_) (fun c60 => ?_)
                · have h := if_f h c60
                  refine Ex_iconst (v := 0) dX7_read_156 (by decide) ?_
                  obtain ⟨r52, f53, a54, hc55, h⟩ := bnd_some h
                  refine Em_callVv (C_m_emit hc55) CV_X7_232 (by decide) rfl rfl (Nat.le_of_ble_eq_true rfl) dX7_read_157 ?_
                  refine Ex_goto (tgt := 201) dX7_read_160 (by decide) ?_
                  refine Ex_goto (tgt := 63) dX7_read_201 (by decide) ?_
                  exact (ih h).to rfl
                · have h := if_t h c60
                  refine Ex_iload_n dX7_read_152 rfl rfl ?_
                  refine Ex_goto (tgt := 157) dX7_read_153 (by decide) ?_
                  obtain ⟨r56, f57, a58, hc59, h⟩ := bnd_some h
                  refine Em_callVv (C_m_emit hc59) CV_X7_232 (by decide) rfl rfl (Nat.le_of_ble_eq_true rfl) dX7_read_157 ?_
                  refine Ex_goto (tgt := 201) dX7_read_160 (by decide) ?_
                  refine Ex_goto (tgt := 63) dX7_read_201 (by decide) ?_
                  exact (ih h).to rfl
            · have h := if_t h c76
              refine Ex_iconst (v := 0) dX7_read_136 (by decide) ?_
              refine Ex_goto (tgt := 141) dX7_read_137 (by decide) ?_
              refine Ex_iload_n dX7_read_141 rfl rfl ?_
              refine Ex_iconst (v := 4) dX7_read_142 (by decide) ?_
              refine Ex_icmp_eq (tgt := 152) dX7_read_143 (by decide) (fun c75 => ?_) (fun c75 => ?_)
              · have h := if_t h c75
                refine Ex_iload_n dX7_read_152 rfl rfl ?_
                refine Ex_goto (tgt := 157) dX7_read_153 (by decide) ?_
                obtain ⟨r62, f63, a64, hc65, h⟩ := bnd_some h
                refine Em_callVv (C_m_emit hc65) CV_X7_232 (by decide) rfl rfl (Nat.le_of_ble_eq_true rfl) dX7_read_157 ?_
                refine Ex_goto (tgt := 201) dX7_read_160 (by decide) ?_
                refine Ex_goto (tgt := 63) dX7_read_201 (by decide) ?_
                exact (ih h).to rfl
              · have h := if_f h c75
                refine Ex_iload_n dX7_read_146 rfl rfl ?_
                refine Ex_bipush (v := 6) dX7_read_147 (by decide) ?_
                refine Ex_icmp_ne (tgt := 156) dX7_read_149 (by decide) (fun c74 => ?_) (fun c74 => ?_)
                · have h := if_f h c74
                  refine Ex_iconst (v := 0) dX7_read_156 (by decide) ?_
                  obtain ⟨r66, f67, a68, hc69, h⟩ := bnd_some h
                  refine Em_callVv (C_m_emit hc69) CV_X7_232 (by decide) rfl rfl (Nat.le_of_ble_eq_true rfl) dX7_read_157 ?_
                  refine Ex_goto (tgt := 201) dX7_read_160 (by decide) ?_
                  refine Ex_goto (tgt := 63) dX7_read_201 (by decide) ?_
                  exact (ih h).to rfl
                · have h := if_t h c74
                  refine Ex_iload_n dX7_read_152 rfl rfl ?_
                  refine Ex_goto (tgt := 157) dX7_read_153 (by decide) ?_
                  obtain ⟨r70, f71, a72, hc73, h⟩ := bnd_some h
                  refine Em_callVv (C_m_emit hc73) CV_X7_232 (by decide) rfl rfl (Nat.le_of_ble_eq_true rfl) dX7_read_157 ?_
                  refine Ex_goto (tgt := 201) dX7_read_160 (by decide) ?_
                  refine Ex_goto (tgt := 63) dX7_read_201 (by decide) ?_
                  exact (ih h).to rfl
set_option maxHeartbeats 4000000 in
theorem C_m_read {Γ : GT} {m sz : Nat} {f : MF} {a : MA} {rz : Int32} {fz : MF} {az : MA} (h : m_read f a = some (rz, fz, az)) : CM Γ JX7_read 6 [.ref m] (mixM m f a sz) 0 0 (.returned (some (.int rz)), mixM m fz az sz) := by
  refine CM.of (by decide +kernel) (Nat.le_of_ble_eq_true rfl) ?_
  unfold m_read at h
  show Ex Γ JX7_read 6 0 [(0, .ref m)] [] (mixM m f a sz) 0 0 _
  refine Ex_aload_n dX7_read_0 rfl rfl ?_
  refine Ex_iconst (v := 0) dX7_read_1 (by decide) ?_
  refine Em_put FW_X7_160 rfl rfl rfl dX7_read_2 ?_
  refine Ex_aload_n dX7_read_5 rfl rfl ?_
  refine Ex_iconst (v := -1) dX7_read_6 (by decide) ?_
  refine Em_put FW_X7_163 rfl rfl rfl dX7_read_7 ?_
  refine Ex_aload_n dX7_read_10 rfl rfl ?_
  refine Ex_iconst (v := 0) dX7_read_11 (by decide) ?_
  refine Em_put FW_X7_170 rfl rfl rfl dX7_read_12 ?_
  refine Ex_aload_n dX7_read_15 rfl rfl ?_
  refine Ex_iconst (v := 0) dX7_read_16 (by decide) ?_
  refine Em_put FW_X7_229 rfl rfl rfl dX7_read_17 ?_
  refine Ex_aload_n dX7_read_20 rfl rfl ?_
  refine Ex_iconst (v := 0) dX7_read_21 (by decide) ?_
  refine Em_put FW_X7_193 rfl rfl rfl dX7_read_22 ?_
  refine Ex_aload_n dX7_read_25 rfl rfl ?_
  refine Ex_iconst (v := 0) dX7_read_26 (by decide) ?_
  refine Em_put FW_X7_183 rfl rfl rfl dX7_read_27 ?_
  refine Ex_aload_n dX7_read_30 rfl rfl ?_
  refine Ex_iconst (v := 0) dX7_read_31 (by decide) ?_
  refine Em_put FW_X7_261 rfl rfl rfl dX7_read_32 ?_
  refine Ex_aload_n dX7_read_35 rfl rfl ?_
  refine Ex_iconst (v := 0) dX7_read_36 (by decide) ?_
  refine Em_put FW_X7_180 rfl rfl rfl dX7_read_37 ?_
  refine Ex_aload_n dX7_read_40 rfl rfl ?_
  refine Ex_iconst (v := 0) dX7_read_41 (by decide) ?_
  refine Em_put FW_X7_226 rfl rfl rfl dX7_read_42 ?_
  refine Ex_aload_n dX7_read_45 rfl rfl ?_
  obtain ⟨r1, f2, a3, hc4, h⟩ := bnd_some h
  refine Em_callVv (C_m_skip hc4) CV_X7_177 (by decide) rfl rfl (Nat.le_of_ble_eq_true rfl) dX7_read_46 ?_
  refine Ex_aload_n dX7_read_49 rfl rfl ?_
  refine Ex_sipush (v := 200) dX7_read_50 (by decide) ?_
  obtain ⟨r5, f6, a7, hc8, h⟩ := bnd_some h
  refine Em_callVv (C_m_push hc8) CV_X7_199 (by decide) rfl rfl (Nat.le_of_ble_eq_true rfl) dX7_read_53 ?_
  refine Ex_aload_n dX7_read_56 rfl rfl ?_
  refine Ex_sipush (v := 201) dX7_read_57 (by decide) ?_
  obtain ⟨r9, f10, a11, hc12, h⟩ := bnd_some h
  refine Em_callVv (C_m_push hc12) CV_X7_199 (by decide) rfl rfl (Nat.le_of_ble_eq_true rfl) dX7_read_60 ?_
  exact (Wm_read_63 _ h).to rfl
