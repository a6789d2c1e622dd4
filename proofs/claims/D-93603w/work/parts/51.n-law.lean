set_option maxRecDepth 100000
/-! the law's own entry -/
abbrev cL_law : ByteArray := code
theorem dL_law_0 : decode cL_law 0 = .ok (.new 7, 3) := by decide +kernel
theorem dL_law_3 : decode cL_law 3 = .ok (.dup, 1) := by decide +kernel
theorem dL_law_4 : decode cL_law 4 = .ok (.invokespecial 9, 3) := by decide +kernel
theorem dL_law_7 : decode cL_law 7 = .ok (.astore_n 1, 1) := by decide +kernel
theorem dL_law_8 : decode cL_law 8 = .ok (.new 10, 3) := by decide +kernel
theorem dL_law_11 : decode cL_law 11 = .ok (.dup, 1) := by decide +kernel
theorem dL_law_12 : decode cL_law 12 = .ok (.invokespecial 12, 3) := by decide +kernel
theorem dL_law_15 : decode cL_law 15 = .ok (.astore_n 2, 1) := by decide +kernel
theorem dL_law_16 : decode cL_law 16 = .ok (.iconst 0, 1) := by decide +kernel
theorem dL_law_17 : decode cL_law 17 = .ok (.istore_n 3, 1) := by decide +kernel
theorem dL_law_18 : decode cL_law 18 = .ok (.iload_n 3, 1) := by decide +kernel
theorem dL_law_19 : decode cL_law 19 = .ok (.aload_n 0, 1) := by decide +kernel
theorem dL_law_20 : decode cL_law 20 = .ok (.arraylength, 1) := by decide +kernel
theorem dL_law_21 : decode cL_law 21 = .ok (.bipush 8, 2) := by decide +kernel
theorem dL_law_23 : decode cL_law 23 = .ok (.isub, 1) := by decide +kernel
theorem dL_law_24 : decode cL_law 24 = .ok (.if_icmp .gt 1239, 3) := by decide +kernel
theorem dL_law_27 : decode cL_law 27 = .ok (.aload_n 0, 1) := by decide +kernel
theorem dL_law_28 : decode cL_law 28 = .ok (.iload_n 3, 1) := by decide +kernel
theorem dL_law_29 : decode cL_law 29 = .ok (.iaload, 1) := by decide +kernel
theorem dL_law_30 : decode cL_law 30 = .ok (.bipush 63, 2) := by decide +kernel
theorem dL_law_32 : decode cL_law 32 = .ok (.iand, 1) := by decide +kernel
theorem dL_law_33 : decode cL_law 33 = .ok (.tableswitch 1224 0 32 #[147, 200, 243, 276, 309, 342, 375, 408, 441, 464, 527, 540, 627, 660, 683, 716, 739, 752, 785, 808, 821, 854, 877, 890, 977, 1010, 1023, 1076, 1119, 1142, 1175, 1188, 1201], 147) := by decide +kernel
theorem dL_law_180 : decode cL_law 180 = .ok (.aload_n 1, 1) := by decide +kernel
theorem dL_law_181 : decode cL_law 181 = .ok (.aload_n 0, 1) := by decide +kernel
theorem dL_law_182 : decode cL_law 182 = .ok (.iload_n 3, 1) := by decide +kernel
theorem dL_law_183 : decode cL_law 183 = .ok (.iconst 1, 1) := by decide +kernel
theorem dL_law_184 : decode cL_law 184 = .ok (.iadd, 1) := by decide +kernel
theorem dL_law_185 : decode cL_law 185 = .ok (.iaload, 1) := by decide +kernel
theorem dL_law_186 : decode cL_law 186 = .ok (.aload_n 0, 1) := by decide +kernel
theorem dL_law_187 : decode cL_law 187 = .ok (.iload_n 3, 1) := by decide +kernel
theorem dL_law_188 : decode cL_law 188 = .ok (.iconst 2, 1) := by decide +kernel
theorem dL_law_189 : decode cL_law 189 = .ok (.iadd, 1) := by decide +kernel
theorem dL_law_190 : decode cL_law 190 = .ok (.iaload, 1) := by decide +kernel
theorem dL_law_191 : decode cL_law 191 = .ok (.aload_n 0, 1) := by decide +kernel
theorem dL_law_192 : decode cL_law 192 = .ok (.iload_n 3, 1) := by decide +kernel
theorem dL_law_193 : decode cL_law 193 = .ok (.iconst 3, 1) := by decide +kernel
theorem dL_law_194 : decode cL_law 194 = .ok (.iadd, 1) := by decide +kernel
theorem dL_law_195 : decode cL_law 195 = .ok (.iaload, 1) := by decide +kernel
theorem dL_law_196 : decode cL_law 196 = .ok (.aload_n 0, 1) := by decide +kernel
theorem dL_law_197 : decode cL_law 197 = .ok (.iload_n 3, 1) := by decide +kernel
theorem dL_law_198 : decode cL_law 198 = .ok (.iconst 4, 1) := by decide +kernel
theorem dL_law_199 : decode cL_law 199 = .ok (.iadd, 1) := by decide +kernel
theorem dL_law_200 : decode cL_law 200 = .ok (.iaload, 1) := by decide +kernel
theorem dL_law_201 : decode cL_law 201 = .ok (.invokevirtual 13, 3) := by decide +kernel
theorem dL_law_204 : decode cL_law 204 = .ok (.aload_n 2, 1) := by decide +kernel
theorem dL_law_205 : decode cL_law 205 = .ok (.aload_n 0, 1) := by decide +kernel
theorem dL_law_206 : decode cL_law 206 = .ok (.iload_n 3, 1) := by decide +kernel
theorem dL_law_207 : decode cL_law 207 = .ok (.iconst 1, 1) := by decide +kernel
theorem dL_law_208 : decode cL_law 208 = .ok (.iadd, 1) := by decide +kernel
theorem dL_law_209 : decode cL_law 209 = .ok (.iaload, 1) := by decide +kernel
theorem dL_law_210 : decode cL_law 210 = .ok (.aload_n 0, 1) := by decide +kernel
theorem dL_law_211 : decode cL_law 211 = .ok (.iload_n 3, 1) := by decide +kernel
theorem dL_law_212 : decode cL_law 212 = .ok (.iconst 2, 1) := by decide +kernel
theorem dL_law_213 : decode cL_law 213 = .ok (.iadd, 1) := by decide +kernel
theorem dL_law_214 : decode cL_law 214 = .ok (.iaload, 1) := by decide +kernel
theorem dL_law_215 : decode cL_law 215 = .ok (.aload_n 0, 1) := by decide +kernel
theorem dL_law_216 : decode cL_law 216 = .ok (.iload_n 3, 1) := by decide +kernel
theorem dL_law_217 : decode cL_law 217 = .ok (.iconst 3, 1) := by decide +kernel
theorem dL_law_218 : decode cL_law 218 = .ok (.iadd, 1) := by decide +kernel
theorem dL_law_219 : decode cL_law 219 = .ok (.iaload, 1) := by decide +kernel
theorem dL_law_220 : decode cL_law 220 = .ok (.aload_n 0, 1) := by decide +kernel
theorem dL_law_221 : decode cL_law 221 = .ok (.iload_n 3, 1) := by decide +kernel
theorem dL_law_222 : decode cL_law 222 = .ok (.iconst 4, 1) := by decide +kernel
theorem dL_law_223 : decode cL_law 223 = .ok (.iadd, 1) := by decide +kernel
theorem dL_law_224 : decode cL_law 224 = .ok (.iaload, 1) := by decide +kernel
theorem dL_law_225 : decode cL_law 225 = .ok (.invokevirtual 17, 3) := by decide +kernel
theorem dL_law_228 : decode cL_law 228 = .ok (.if_icmp .eq 1029, 3) := by decide +kernel
theorem dL_law_231 : decode cL_law 231 = .ok (.iconst 0, 1) := by decide +kernel
theorem dL_law_232 : decode cL_law 232 = .ok (.ireturn, 1) := by decide +kernel
theorem dL_law_233 : decode cL_law 233 = .ok (.aload_n 1, 1) := by decide +kernel
theorem dL_law_234 : decode cL_law 234 = .ok (.aload_n 0, 1) := by decide +kernel
theorem dL_law_235 : decode cL_law 235 = .ok (.iload_n 3, 1) := by decide +kernel
theorem dL_law_236 : decode cL_law 236 = .ok (.iconst 1, 1) := by decide +kernel
theorem dL_law_237 : decode cL_law 237 = .ok (.iadd, 1) := by decide +kernel
theorem dL_law_238 : decode cL_law 238 = .ok (.iaload, 1) := by decide +kernel
theorem dL_law_239 : decode cL_law 239 = .ok (.aload_n 0, 1) := by decide +kernel
theorem dL_law_240 : decode cL_law 240 = .ok (.iload_n 3, 1) := by decide +kernel
theorem dL_law_241 : decode cL_law 241 = .ok (.iconst 2, 1) := by decide +kernel
theorem dL_law_242 : decode cL_law 242 = .ok (.iadd, 1) := by decide +kernel
theorem dL_law_243 : decode cL_law 243 = .ok (.iaload, 1) := by decide +kernel
theorem dL_law_244 : decode cL_law 244 = .ok (.aload_n 0, 1) := by decide +kernel
theorem dL_law_245 : decode cL_law 245 = .ok (.iload_n 3, 1) := by decide +kernel
theorem dL_law_246 : decode cL_law 246 = .ok (.iconst 3, 1) := by decide +kernel
theorem dL_law_247 : decode cL_law 247 = .ok (.iadd, 1) := by decide +kernel
theorem dL_law_248 : decode cL_law 248 = .ok (.iaload, 1) := by decide +kernel
theorem dL_law_249 : decode cL_law 249 = .ok (.invokevirtual 18, 3) := by decide +kernel
theorem dL_law_252 : decode cL_law 252 = .ok (.aload_n 2, 1) := by decide +kernel
theorem dL_law_253 : decode cL_law 253 = .ok (.aload_n 0, 1) := by decide +kernel
theorem dL_law_254 : decode cL_law 254 = .ok (.iload_n 3, 1) := by decide +kernel
theorem dL_law_255 : decode cL_law 255 = .ok (.iconst 1, 1) := by decide +kernel
theorem dL_law_256 : decode cL_law 256 = .ok (.iadd, 1) := by decide +kernel
theorem dL_law_257 : decode cL_law 257 = .ok (.iaload, 1) := by decide +kernel
theorem dL_law_258 : decode cL_law 258 = .ok (.aload_n 0, 1) := by decide +kernel
theorem dL_law_259 : decode cL_law 259 = .ok (.iload_n 3, 1) := by decide +kernel
theorem dL_law_260 : decode cL_law 260 = .ok (.iconst 2, 1) := by decide +kernel
theorem dL_law_261 : decode cL_law 261 = .ok (.iadd, 1) := by decide +kernel
theorem dL_law_262 : decode cL_law 262 = .ok (.iaload, 1) := by decide +kernel
theorem dL_law_263 : decode cL_law 263 = .ok (.aload_n 0, 1) := by decide +kernel
theorem dL_law_264 : decode cL_law 264 = .ok (.iload_n 3, 1) := by decide +kernel
theorem dL_law_265 : decode cL_law 265 = .ok (.iconst 3, 1) := by decide +kernel
theorem dL_law_266 : decode cL_law 266 = .ok (.iadd, 1) := by decide +kernel
theorem dL_law_267 : decode cL_law 267 = .ok (.iaload, 1) := by decide +kernel
theorem dL_law_268 : decode cL_law 268 = .ok (.invokevirtual 22, 3) := by decide +kernel
theorem dL_law_271 : decode cL_law 271 = .ok (.if_icmp .eq 986, 3) := by decide +kernel
theorem dL_law_274 : decode cL_law 274 = .ok (.iconst 0, 1) := by decide +kernel
theorem dL_law_275 : decode cL_law 275 = .ok (.ireturn, 1) := by decide +kernel
theorem dL_law_276 : decode cL_law 276 = .ok (.aload_n 1, 1) := by decide +kernel
theorem dL_law_277 : decode cL_law 277 = .ok (.aload_n 0, 1) := by decide +kernel
theorem dL_law_278 : decode cL_law 278 = .ok (.iload_n 3, 1) := by decide +kernel
theorem dL_law_279 : decode cL_law 279 = .ok (.iconst 1, 1) := by decide +kernel
theorem dL_law_280 : decode cL_law 280 = .ok (.iadd, 1) := by decide +kernel
theorem dL_law_281 : decode cL_law 281 = .ok (.iaload, 1) := by decide +kernel
theorem dL_law_282 : decode cL_law 282 = .ok (.aload_n 0, 1) := by decide +kernel
theorem dL_law_283 : decode cL_law 283 = .ok (.iload_n 3, 1) := by decide +kernel
theorem dL_law_284 : decode cL_law 284 = .ok (.iconst 2, 1) := by decide +kernel
theorem dL_law_285 : decode cL_law 285 = .ok (.iadd, 1) := by decide +kernel
theorem dL_law_286 : decode cL_law 286 = .ok (.iaload, 1) := by decide +kernel
theorem dL_law_287 : decode cL_law 287 = .ok (.invokevirtual 23, 3) := by decide +kernel
theorem dL_law_290 : decode cL_law 290 = .ok (.aload_n 2, 1) := by decide +kernel
theorem dL_law_291 : decode cL_law 291 = .ok (.aload_n 0, 1) := by decide +kernel
theorem dL_law_292 : decode cL_law 292 = .ok (.iload_n 3, 1) := by decide +kernel
theorem dL_law_293 : decode cL_law 293 = .ok (.iconst 1, 1) := by decide +kernel
theorem dL_law_294 : decode cL_law 294 = .ok (.iadd, 1) := by decide +kernel
theorem dL_law_295 : decode cL_law 295 = .ok (.iaload, 1) := by decide +kernel
theorem dL_law_296 : decode cL_law 296 = .ok (.aload_n 0, 1) := by decide +kernel
theorem dL_law_297 : decode cL_law 297 = .ok (.iload_n 3, 1) := by decide +kernel
theorem dL_law_298 : decode cL_law 298 = .ok (.iconst 2, 1) := by decide +kernel
theorem dL_law_299 : decode cL_law 299 = .ok (.iadd, 1) := by decide +kernel
theorem dL_law_300 : decode cL_law 300 = .ok (.iaload, 1) := by decide +kernel
theorem dL_law_301 : decode cL_law 301 = .ok (.invokevirtual 27, 3) := by decide +kernel
theorem dL_law_304 : decode cL_law 304 = .ok (.if_icmp .eq 953, 3) := by decide +kernel
theorem dL_law_307 : decode cL_law 307 = .ok (.iconst 0, 1) := by decide +kernel
theorem dL_law_308 : decode cL_law 308 = .ok (.ireturn, 1) := by decide +kernel
theorem dL_law_309 : decode cL_law 309 = .ok (.aload_n 1, 1) := by decide +kernel
theorem dL_law_310 : decode cL_law 310 = .ok (.aload_n 0, 1) := by decide +kernel
theorem dL_law_311 : decode cL_law 311 = .ok (.iload_n 3, 1) := by decide +kernel
theorem dL_law_312 : decode cL_law 312 = .ok (.iconst 1, 1) := by decide +kernel
theorem dL_law_313 : decode cL_law 313 = .ok (.iadd, 1) := by decide +kernel
theorem dL_law_314 : decode cL_law 314 = .ok (.iaload, 1) := by decide +kernel
theorem dL_law_315 : decode cL_law 315 = .ok (.aload_n 0, 1) := by decide +kernel
theorem dL_law_316 : decode cL_law 316 = .ok (.iload_n 3, 1) := by decide +kernel
theorem dL_law_317 : decode cL_law 317 = .ok (.iconst 2, 1) := by decide +kernel
theorem dL_law_318 : decode cL_law 318 = .ok (.iadd, 1) := by decide +kernel
theorem dL_law_319 : decode cL_law 319 = .ok (.iaload, 1) := by decide +kernel
theorem dL_law_320 : decode cL_law 320 = .ok (.invokevirtual 28, 3) := by decide +kernel
theorem dL_law_323 : decode cL_law 323 = .ok (.aload_n 2, 1) := by decide +kernel
theorem dL_law_324 : decode cL_law 324 = .ok (.aload_n 0, 1) := by decide +kernel
theorem dL_law_325 : decode cL_law 325 = .ok (.iload_n 3, 1) := by decide +kernel
theorem dL_law_326 : decode cL_law 326 = .ok (.iconst 1, 1) := by decide +kernel
theorem dL_law_327 : decode cL_law 327 = .ok (.iadd, 1) := by decide +kernel
theorem dL_law_328 : decode cL_law 328 = .ok (.iaload, 1) := by decide +kernel
theorem dL_law_329 : decode cL_law 329 = .ok (.aload_n 0, 1) := by decide +kernel
theorem dL_law_330 : decode cL_law 330 = .ok (.iload_n 3, 1) := by decide +kernel
theorem dL_law_331 : decode cL_law 331 = .ok (.iconst 2, 1) := by decide +kernel
theorem dL_law_332 : decode cL_law 332 = .ok (.iadd, 1) := by decide +kernel
theorem dL_law_333 : decode cL_law 333 = .ok (.iaload, 1) := by decide +kernel
theorem dL_law_334 : decode cL_law 334 = .ok (.invokevirtual 31, 3) := by decide +kernel
theorem dL_law_337 : decode cL_law 337 = .ok (.if_icmp .eq 920, 3) := by decide +kernel
theorem dL_law_340 : decode cL_law 340 = .ok (.iconst 0, 1) := by decide +kernel
theorem dL_law_341 : decode cL_law 341 = .ok (.ireturn, 1) := by decide +kernel
theorem dL_law_342 : decode cL_law 342 = .ok (.aload_n 1, 1) := by decide +kernel
theorem dL_law_343 : decode cL_law 343 = .ok (.aload_n 0, 1) := by decide +kernel
theorem dL_law_344 : decode cL_law 344 = .ok (.iload_n 3, 1) := by decide +kernel
theorem dL_law_345 : decode cL_law 345 = .ok (.iconst 1, 1) := by decide +kernel
theorem dL_law_346 : decode cL_law 346 = .ok (.iadd, 1) := by decide +kernel
theorem dL_law_347 : decode cL_law 347 = .ok (.iaload, 1) := by decide +kernel
theorem dL_law_348 : decode cL_law 348 = .ok (.aload_n 0, 1) := by decide +kernel
theorem dL_law_349 : decode cL_law 349 = .ok (.iload_n 3, 1) := by decide +kernel
theorem dL_law_350 : decode cL_law 350 = .ok (.iconst 2, 1) := by decide +kernel
theorem dL_law_351 : decode cL_law 351 = .ok (.iadd, 1) := by decide +kernel
theorem dL_law_352 : decode cL_law 352 = .ok (.iaload, 1) := by decide +kernel
theorem dL_law_353 : decode cL_law 353 = .ok (.invokevirtual 32, 3) := by decide +kernel
theorem dL_law_356 : decode cL_law 356 = .ok (.aload_n 2, 1) := by decide +kernel
theorem dL_law_357 : decode cL_law 357 = .ok (.aload_n 0, 1) := by decide +kernel
theorem dL_law_358 : decode cL_law 358 = .ok (.iload_n 3, 1) := by decide +kernel
theorem dL_law_359 : decode cL_law 359 = .ok (.iconst 1, 1) := by decide +kernel
theorem dL_law_360 : decode cL_law 360 = .ok (.iadd, 1) := by decide +kernel
theorem dL_law_361 : decode cL_law 361 = .ok (.iaload, 1) := by decide +kernel
theorem dL_law_362 : decode cL_law 362 = .ok (.aload_n 0, 1) := by decide +kernel
theorem dL_law_363 : decode cL_law 363 = .ok (.iload_n 3, 1) := by decide +kernel
theorem dL_law_364 : decode cL_law 364 = .ok (.iconst 2, 1) := by decide +kernel
theorem dL_law_365 : decode cL_law 365 = .ok (.iadd, 1) := by decide +kernel
theorem dL_law_366 : decode cL_law 366 = .ok (.iaload, 1) := by decide +kernel
theorem dL_law_367 : decode cL_law 367 = .ok (.invokevirtual 35, 3) := by decide +kernel
theorem dL_law_370 : decode cL_law 370 = .ok (.if_icmp .eq 887, 3) := by decide +kernel
theorem dL_law_373 : decode cL_law 373 = .ok (.iconst 0, 1) := by decide +kernel
theorem dL_law_374 : decode cL_law 374 = .ok (.ireturn, 1) := by decide +kernel
theorem dL_law_375 : decode cL_law 375 = .ok (.aload_n 1, 1) := by decide +kernel
theorem dL_law_376 : decode cL_law 376 = .ok (.aload_n 0, 1) := by decide +kernel
theorem dL_law_377 : decode cL_law 377 = .ok (.iload_n 3, 1) := by decide +kernel
theorem dL_law_378 : decode cL_law 378 = .ok (.iconst 1, 1) := by decide +kernel
theorem dL_law_379 : decode cL_law 379 = .ok (.iadd, 1) := by decide +kernel
theorem dL_law_380 : decode cL_law 380 = .ok (.iaload, 1) := by decide +kernel
theorem dL_law_381 : decode cL_law 381 = .ok (.aload_n 0, 1) := by decide +kernel
theorem dL_law_382 : decode cL_law 382 = .ok (.iload_n 3, 1) := by decide +kernel
theorem dL_law_383 : decode cL_law 383 = .ok (.iconst 2, 1) := by decide +kernel
theorem dL_law_384 : decode cL_law 384 = .ok (.iadd, 1) := by decide +kernel
theorem dL_law_385 : decode cL_law 385 = .ok (.iaload, 1) := by decide +kernel
theorem dL_law_386 : decode cL_law 386 = .ok (.invokevirtual 36, 3) := by decide +kernel
theorem dL_law_389 : decode cL_law 389 = .ok (.aload_n 2, 1) := by decide +kernel
theorem dL_law_390 : decode cL_law 390 = .ok (.aload_n 0, 1) := by decide +kernel
theorem dL_law_391 : decode cL_law 391 = .ok (.iload_n 3, 1) := by decide +kernel
theorem dL_law_392 : decode cL_law 392 = .ok (.iconst 1, 1) := by decide +kernel
theorem dL_law_393 : decode cL_law 393 = .ok (.iadd, 1) := by decide +kernel
theorem dL_law_394 : decode cL_law 394 = .ok (.iaload, 1) := by decide +kernel
theorem dL_law_395 : decode cL_law 395 = .ok (.aload_n 0, 1) := by decide +kernel
theorem dL_law_396 : decode cL_law 396 = .ok (.iload_n 3, 1) := by decide +kernel
theorem dL_law_397 : decode cL_law 397 = .ok (.iconst 2, 1) := by decide +kernel
theorem dL_law_398 : decode cL_law 398 = .ok (.iadd, 1) := by decide +kernel
theorem dL_law_399 : decode cL_law 399 = .ok (.iaload, 1) := by decide +kernel
theorem dL_law_400 : decode cL_law 400 = .ok (.invokevirtual 39, 3) := by decide +kernel
theorem dL_law_403 : decode cL_law 403 = .ok (.if_icmp .eq 854, 3) := by decide +kernel
theorem dL_law_406 : decode cL_law 406 = .ok (.iconst 0, 1) := by decide +kernel
theorem dL_law_407 : decode cL_law 407 = .ok (.ireturn, 1) := by decide +kernel
theorem dL_law_408 : decode cL_law 408 = .ok (.aload_n 1, 1) := by decide +kernel
theorem dL_law_409 : decode cL_law 409 = .ok (.aload_n 0, 1) := by decide +kernel
theorem dL_law_410 : decode cL_law 410 = .ok (.iload_n 3, 1) := by decide +kernel
theorem dL_law_411 : decode cL_law 411 = .ok (.iconst 1, 1) := by decide +kernel
theorem dL_law_412 : decode cL_law 412 = .ok (.iadd, 1) := by decide +kernel
theorem dL_law_413 : decode cL_law 413 = .ok (.iaload, 1) := by decide +kernel
theorem dL_law_414 : decode cL_law 414 = .ok (.aload_n 0, 1) := by decide +kernel
theorem dL_law_415 : decode cL_law 415 = .ok (.iload_n 3, 1) := by decide +kernel
theorem dL_law_416 : decode cL_law 416 = .ok (.iconst 2, 1) := by decide +kernel
theorem dL_law_417 : decode cL_law 417 = .ok (.iadd, 1) := by decide +kernel
theorem dL_law_418 : decode cL_law 418 = .ok (.iaload, 1) := by decide +kernel
theorem dL_law_419 : decode cL_law 419 = .ok (.invokevirtual 40, 3) := by decide +kernel
theorem dL_law_422 : decode cL_law 422 = .ok (.aload_n 2, 1) := by decide +kernel
theorem dL_law_423 : decode cL_law 423 = .ok (.aload_n 0, 1) := by decide +kernel
theorem dL_law_424 : decode cL_law 424 = .ok (.iload_n 3, 1) := by decide +kernel
theorem dL_law_425 : decode cL_law 425 = .ok (.iconst 1, 1) := by decide +kernel
theorem dL_law_426 : decode cL_law 426 = .ok (.iadd, 1) := by decide +kernel
theorem dL_law_427 : decode cL_law 427 = .ok (.iaload, 1) := by decide +kernel
theorem dL_law_428 : decode cL_law 428 = .ok (.aload_n 0, 1) := by decide +kernel
theorem dL_law_429 : decode cL_law 429 = .ok (.iload_n 3, 1) := by decide +kernel
theorem dL_law_430 : decode cL_law 430 = .ok (.iconst 2, 1) := by decide +kernel
theorem dL_law_431 : decode cL_law 431 = .ok (.iadd, 1) := by decide +kernel
theorem dL_law_432 : decode cL_law 432 = .ok (.iaload, 1) := by decide +kernel
theorem dL_law_433 : decode cL_law 433 = .ok (.invokevirtual 43, 3) := by decide +kernel
theorem dL_law_436 : decode cL_law 436 = .ok (.if_icmp .eq 821, 3) := by decide +kernel
theorem dL_law_439 : decode cL_law 439 = .ok (.iconst 0, 1) := by decide +kernel
theorem dL_law_440 : decode cL_law 440 = .ok (.ireturn, 1) := by decide +kernel
theorem dL_law_441 : decode cL_law 441 = .ok (.aload_n 1, 1) := by decide +kernel
theorem dL_law_442 : decode cL_law 442 = .ok (.aload_n 0, 1) := by decide +kernel
theorem dL_law_443 : decode cL_law 443 = .ok (.iload_n 3, 1) := by decide +kernel
theorem dL_law_444 : decode cL_law 444 = .ok (.iconst 1, 1) := by decide +kernel
theorem dL_law_445 : decode cL_law 445 = .ok (.iadd, 1) := by decide +kernel
theorem dL_law_446 : decode cL_law 446 = .ok (.iaload, 1) := by decide +kernel
theorem dL_law_447 : decode cL_law 447 = .ok (.aload_n 0, 1) := by decide +kernel
theorem dL_law_448 : decode cL_law 448 = .ok (.iload_n 3, 1) := by decide +kernel
theorem dL_law_449 : decode cL_law 449 = .ok (.iconst 2, 1) := by decide +kernel
theorem dL_law_450 : decode cL_law 450 = .ok (.iadd, 1) := by decide +kernel
theorem dL_law_451 : decode cL_law 451 = .ok (.iaload, 1) := by decide +kernel
theorem dL_law_452 : decode cL_law 452 = .ok (.invokevirtual 44, 3) := by decide +kernel
theorem dL_law_455 : decode cL_law 455 = .ok (.aload_n 2, 1) := by decide +kernel
theorem dL_law_456 : decode cL_law 456 = .ok (.aload_n 0, 1) := by decide +kernel
theorem dL_law_457 : decode cL_law 457 = .ok (.iload_n 3, 1) := by decide +kernel
theorem dL_law_458 : decode cL_law 458 = .ok (.iconst 1, 1) := by decide +kernel
theorem dL_law_459 : decode cL_law 459 = .ok (.iadd, 1) := by decide +kernel
theorem dL_law_460 : decode cL_law 460 = .ok (.iaload, 1) := by decide +kernel
theorem dL_law_461 : decode cL_law 461 = .ok (.aload_n 0, 1) := by decide +kernel
theorem dL_law_462 : decode cL_law 462 = .ok (.iload_n 3, 1) := by decide +kernel
theorem dL_law_463 : decode cL_law 463 = .ok (.iconst 2, 1) := by decide +kernel
theorem dL_law_464 : decode cL_law 464 = .ok (.iadd, 1) := by decide +kernel
theorem dL_law_465 : decode cL_law 465 = .ok (.iaload, 1) := by decide +kernel
theorem dL_law_466 : decode cL_law 466 = .ok (.invokevirtual 47, 3) := by decide +kernel
theorem dL_law_469 : decode cL_law 469 = .ok (.if_icmp .eq 788, 3) := by decide +kernel
theorem dL_law_472 : decode cL_law 472 = .ok (.iconst 0, 1) := by decide +kernel
theorem dL_law_473 : decode cL_law 473 = .ok (.ireturn, 1) := by decide +kernel
theorem dL_law_474 : decode cL_law 474 = .ok (.aload_n 1, 1) := by decide +kernel
theorem dL_law_475 : decode cL_law 475 = .ok (.aload_n 0, 1) := by decide +kernel
theorem dL_law_476 : decode cL_law 476 = .ok (.iload_n 3, 1) := by decide +kernel
theorem dL_law_477 : decode cL_law 477 = .ok (.iconst 1, 1) := by decide +kernel
theorem dL_law_478 : decode cL_law 478 = .ok (.iadd, 1) := by decide +kernel
theorem dL_law_479 : decode cL_law 479 = .ok (.iaload, 1) := by decide +kernel
theorem dL_law_480 : decode cL_law 480 = .ok (.invokevirtual 48, 3) := by decide +kernel
theorem dL_law_483 : decode cL_law 483 = .ok (.aload_n 2, 1) := by decide +kernel
theorem dL_law_484 : decode cL_law 484 = .ok (.aload_n 0, 1) := by decide +kernel
theorem dL_law_485 : decode cL_law 485 = .ok (.iload_n 3, 1) := by decide +kernel
theorem dL_law_486 : decode cL_law 486 = .ok (.iconst 1, 1) := by decide +kernel
theorem dL_law_487 : decode cL_law 487 = .ok (.iadd, 1) := by decide +kernel
theorem dL_law_488 : decode cL_law 488 = .ok (.iaload, 1) := by decide +kernel
theorem dL_law_489 : decode cL_law 489 = .ok (.invokevirtual 52, 3) := by decide +kernel
theorem dL_law_492 : decode cL_law 492 = .ok (.if_icmp .eq 765, 3) := by decide +kernel
theorem dL_law_495 : decode cL_law 495 = .ok (.iconst 0, 1) := by decide +kernel
theorem dL_law_496 : decode cL_law 496 = .ok (.ireturn, 1) := by decide +kernel
theorem dL_law_497 : decode cL_law 497 = .ok (.aload_n 1, 1) := by decide +kernel
theorem dL_law_498 : decode cL_law 498 = .ok (.aload_n 0, 1) := by decide +kernel
theorem dL_law_499 : decode cL_law 499 = .ok (.iload_n 3, 1) := by decide +kernel
theorem dL_law_500 : decode cL_law 500 = .ok (.iconst 1, 1) := by decide +kernel
theorem dL_law_501 : decode cL_law 501 = .ok (.iadd, 1) := by decide +kernel
theorem dL_law_502 : decode cL_law 502 = .ok (.iaload, 1) := by decide +kernel
theorem dL_law_503 : decode cL_law 503 = .ok (.i2l, 1) := by decide +kernel
theorem dL_law_504 : decode cL_law 504 = .ok (.bipush 32, 2) := by decide +kernel
theorem dL_law_506 : decode cL_law 506 = .ok (.lshl, 1) := by decide +kernel
theorem dL_law_507 : decode cL_law 507 = .ok (.aload_n 0, 1) := by decide +kernel
theorem dL_law_508 : decode cL_law 508 = .ok (.iload_n 3, 1) := by decide +kernel
theorem dL_law_509 : decode cL_law 509 = .ok (.iconst 2, 1) := by decide +kernel
theorem dL_law_510 : decode cL_law 510 = .ok (.iadd, 1) := by decide +kernel
theorem dL_law_511 : decode cL_law 511 = .ok (.iaload, 1) := by decide +kernel
theorem dL_law_512 : decode cL_law 512 = .ok (.i2l, 1) := by decide +kernel
theorem dL_law_513 : decode cL_law 513 = .ok (.ldc2_w 53, 3) := by decide +kernel
theorem dL_law_516 : decode cL_law 516 = .ok (.land, 1) := by decide +kernel
theorem dL_law_517 : decode cL_law 517 = .ok (.lor, 1) := by decide +kernel
theorem dL_law_518 : decode cL_law 518 = .ok (.aload_n 0, 1) := by decide +kernel
theorem dL_law_519 : decode cL_law 519 = .ok (.iload_n 3, 1) := by decide +kernel
theorem dL_law_520 : decode cL_law 520 = .ok (.iconst 3, 1) := by decide +kernel
theorem dL_law_521 : decode cL_law 521 = .ok (.iadd, 1) := by decide +kernel
theorem dL_law_522 : decode cL_law 522 = .ok (.iaload, 1) := by decide +kernel
theorem dL_law_523 : decode cL_law 523 = .ok (.invokevirtual 55, 3) := by decide +kernel
theorem dL_law_526 : decode cL_law 526 = .ok (.aload_n 2, 1) := by decide +kernel
theorem dL_law_527 : decode cL_law 527 = .ok (.aload_n 0, 1) := by decide +kernel
theorem dL_law_528 : decode cL_law 528 = .ok (.iload_n 3, 1) := by decide +kernel
theorem dL_law_529 : decode cL_law 529 = .ok (.iconst 1, 1) := by decide +kernel
theorem dL_law_530 : decode cL_law 530 = .ok (.iadd, 1) := by decide +kernel
theorem dL_law_531 : decode cL_law 531 = .ok (.iaload, 1) := by decide +kernel
theorem dL_law_532 : decode cL_law 532 = .ok (.i2l, 1) := by decide +kernel
theorem dL_law_533 : decode cL_law 533 = .ok (.bipush 32, 2) := by decide +kernel
theorem dL_law_535 : decode cL_law 535 = .ok (.lshl, 1) := by decide +kernel
theorem dL_law_536 : decode cL_law 536 = .ok (.aload_n 0, 1) := by decide +kernel
theorem dL_law_537 : decode cL_law 537 = .ok (.iload_n 3, 1) := by decide +kernel
theorem dL_law_538 : decode cL_law 538 = .ok (.iconst 2, 1) := by decide +kernel
theorem dL_law_539 : decode cL_law 539 = .ok (.iadd, 1) := by decide +kernel
theorem dL_law_540 : decode cL_law 540 = .ok (.iaload, 1) := by decide +kernel
theorem dL_law_541 : decode cL_law 541 = .ok (.i2l, 1) := by decide +kernel
theorem dL_law_542 : decode cL_law 542 = .ok (.ldc2_w 53, 3) := by decide +kernel
theorem dL_law_545 : decode cL_law 545 = .ok (.land, 1) := by decide +kernel
theorem dL_law_546 : decode cL_law 546 = .ok (.lor, 1) := by decide +kernel
theorem dL_law_547 : decode cL_law 547 = .ok (.aload_n 0, 1) := by decide +kernel
theorem dL_law_548 : decode cL_law 548 = .ok (.iload_n 3, 1) := by decide +kernel
theorem dL_law_549 : decode cL_law 549 = .ok (.iconst 3, 1) := by decide +kernel
theorem dL_law_550 : decode cL_law 550 = .ok (.iadd, 1) := by decide +kernel
theorem dL_law_551 : decode cL_law 551 = .ok (.iaload, 1) := by decide +kernel
theorem dL_law_552 : decode cL_law 552 = .ok (.invokevirtual 59, 3) := by decide +kernel
theorem dL_law_555 : decode cL_law 555 = .ok (.if_icmp .eq 702, 3) := by decide +kernel
theorem dL_law_558 : decode cL_law 558 = .ok (.iconst 0, 1) := by decide +kernel
theorem dL_law_559 : decode cL_law 559 = .ok (.ireturn, 1) := by decide +kernel
theorem dL_law_560 : decode cL_law 560 = .ok (.aload_n 1, 1) := by decide +kernel
theorem dL_law_561 : decode cL_law 561 = .ok (.invokevirtual 60, 3) := by decide +kernel
theorem dL_law_564 : decode cL_law 564 = .ok (.aload_n 2, 1) := by decide +kernel
theorem dL_law_565 : decode cL_law 565 = .ok (.invokevirtual 64, 3) := by decide +kernel
theorem dL_law_568 : decode cL_law 568 = .ok (.if_icmp .eq 689, 3) := by decide +kernel
theorem dL_law_571 : decode cL_law 571 = .ok (.iconst 0, 1) := by decide +kernel
theorem dL_law_572 : decode cL_law 572 = .ok (.ireturn, 1) := by decide +kernel
theorem dL_law_573 : decode cL_law 573 = .ok (.aload_n 1, 1) := by decide +kernel
theorem dL_law_574 : decode cL_law 574 = .ok (.aload_n 0, 1) := by decide +kernel
theorem dL_law_575 : decode cL_law 575 = .ok (.iload_n 3, 1) := by decide +kernel
theorem dL_law_576 : decode cL_law 576 = .ok (.iconst 1, 1) := by decide +kernel
theorem dL_law_577 : decode cL_law 577 = .ok (.iadd, 1) := by decide +kernel
theorem dL_law_578 : decode cL_law 578 = .ok (.iaload, 1) := by decide +kernel
theorem dL_law_579 : decode cL_law 579 = .ok (.aload_n 0, 1) := by decide +kernel
theorem dL_law_580 : decode cL_law 580 = .ok (.iload_n 3, 1) := by decide +kernel
theorem dL_law_581 : decode cL_law 581 = .ok (.iconst 2, 1) := by decide +kernel
theorem dL_law_582 : decode cL_law 582 = .ok (.iadd, 1) := by decide +kernel
theorem dL_law_583 : decode cL_law 583 = .ok (.iaload, 1) := by decide +kernel
theorem dL_law_584 : decode cL_law 584 = .ok (.aload_n 0, 1) := by decide +kernel
theorem dL_law_585 : decode cL_law 585 = .ok (.iload_n 3, 1) := by decide +kernel
theorem dL_law_586 : decode cL_law 586 = .ok (.iconst 3, 1) := by decide +kernel
theorem dL_law_587 : decode cL_law 587 = .ok (.iadd, 1) := by decide +kernel
theorem dL_law_588 : decode cL_law 588 = .ok (.iaload, 1) := by decide +kernel
theorem dL_law_589 : decode cL_law 589 = .ok (.aload_n 0, 1) := by decide +kernel
theorem dL_law_590 : decode cL_law 590 = .ok (.iload_n 3, 1) := by decide +kernel
theorem dL_law_591 : decode cL_law 591 = .ok (.iconst 4, 1) := by decide +kernel
theorem dL_law_592 : decode cL_law 592 = .ok (.iadd, 1) := by decide +kernel
theorem dL_law_593 : decode cL_law 593 = .ok (.iaload, 1) := by decide +kernel
theorem dL_law_594 : decode cL_law 594 = .ok (.aload_n 0, 1) := by decide +kernel
theorem dL_law_595 : decode cL_law 595 = .ok (.iload_n 3, 1) := by decide +kernel
theorem dL_law_596 : decode cL_law 596 = .ok (.iconst 5, 1) := by decide +kernel
theorem dL_law_597 : decode cL_law 597 = .ok (.iadd, 1) := by decide +kernel
theorem dL_law_598 : decode cL_law 598 = .ok (.iaload, 1) := by decide +kernel
theorem dL_law_599 : decode cL_law 599 = .ok (.aload_n 0, 1) := by decide +kernel
theorem dL_law_600 : decode cL_law 600 = .ok (.iload_n 3, 1) := by decide +kernel
theorem dL_law_601 : decode cL_law 601 = .ok (.bipush 6, 2) := by decide +kernel
theorem dL_law_603 : decode cL_law 603 = .ok (.iadd, 1) := by decide +kernel
theorem dL_law_604 : decode cL_law 604 = .ok (.iaload, 1) := by decide +kernel
theorem dL_law_605 : decode cL_law 605 = .ok (.aload_n 0, 1) := by decide +kernel
theorem dL_law_606 : decode cL_law 606 = .ok (.iload_n 3, 1) := by decide +kernel
theorem dL_law_607 : decode cL_law 607 = .ok (.bipush 7, 2) := by decide +kernel
theorem dL_law_609 : decode cL_law 609 = .ok (.iadd, 1) := by decide +kernel
theorem dL_law_610 : decode cL_law 610 = .ok (.iaload, 1) := by decide +kernel
theorem dL_law_611 : decode cL_law 611 = .ok (.invokevirtual 65, 3) := by decide +kernel
theorem dL_law_614 : decode cL_law 614 = .ok (.aload_n 2, 1) := by decide +kernel
theorem dL_law_615 : decode cL_law 615 = .ok (.aload_n 0, 1) := by decide +kernel
theorem dL_law_616 : decode cL_law 616 = .ok (.iload_n 3, 1) := by decide +kernel
theorem dL_law_617 : decode cL_law 617 = .ok (.iconst 1, 1) := by decide +kernel
theorem dL_law_618 : decode cL_law 618 = .ok (.iadd, 1) := by decide +kernel
theorem dL_law_619 : decode cL_law 619 = .ok (.iaload, 1) := by decide +kernel
theorem dL_law_620 : decode cL_law 620 = .ok (.aload_n 0, 1) := by decide +kernel
theorem dL_law_621 : decode cL_law 621 = .ok (.iload_n 3, 1) := by decide +kernel
theorem dL_law_622 : decode cL_law 622 = .ok (.iconst 2, 1) := by decide +kernel
theorem dL_law_623 : decode cL_law 623 = .ok (.iadd, 1) := by decide +kernel
theorem dL_law_624 : decode cL_law 624 = .ok (.iaload, 1) := by decide +kernel
theorem dL_law_625 : decode cL_law 625 = .ok (.aload_n 0, 1) := by decide +kernel
theorem dL_law_626 : decode cL_law 626 = .ok (.iload_n 3, 1) := by decide +kernel
theorem dL_law_627 : decode cL_law 627 = .ok (.iconst 3, 1) := by decide +kernel
theorem dL_law_628 : decode cL_law 628 = .ok (.iadd, 1) := by decide +kernel
theorem dL_law_629 : decode cL_law 629 = .ok (.iaload, 1) := by decide +kernel
theorem dL_law_630 : decode cL_law 630 = .ok (.aload_n 0, 1) := by decide +kernel
theorem dL_law_631 : decode cL_law 631 = .ok (.iload_n 3, 1) := by decide +kernel
theorem dL_law_632 : decode cL_law 632 = .ok (.iconst 4, 1) := by decide +kernel
theorem dL_law_633 : decode cL_law 633 = .ok (.iadd, 1) := by decide +kernel
theorem dL_law_634 : decode cL_law 634 = .ok (.iaload, 1) := by decide +kernel
theorem dL_law_635 : decode cL_law 635 = .ok (.aload_n 0, 1) := by decide +kernel
theorem dL_law_636 : decode cL_law 636 = .ok (.iload_n 3, 1) := by decide +kernel
theorem dL_law_637 : decode cL_law 637 = .ok (.iconst 5, 1) := by decide +kernel
theorem dL_law_638 : decode cL_law 638 = .ok (.iadd, 1) := by decide +kernel
theorem dL_law_639 : decode cL_law 639 = .ok (.iaload, 1) := by decide +kernel
theorem dL_law_640 : decode cL_law 640 = .ok (.aload_n 0, 1) := by decide +kernel
theorem dL_law_641 : decode cL_law 641 = .ok (.iload_n 3, 1) := by decide +kernel
theorem dL_law_642 : decode cL_law 642 = .ok (.bipush 6, 2) := by decide +kernel
theorem dL_law_644 : decode cL_law 644 = .ok (.iadd, 1) := by decide +kernel
theorem dL_law_645 : decode cL_law 645 = .ok (.iaload, 1) := by decide +kernel
theorem dL_law_646 : decode cL_law 646 = .ok (.aload_n 0, 1) := by decide +kernel
theorem dL_law_647 : decode cL_law 647 = .ok (.iload_n 3, 1) := by decide +kernel
theorem dL_law_648 : decode cL_law 648 = .ok (.bipush 7, 2) := by decide +kernel
theorem dL_law_650 : decode cL_law 650 = .ok (.iadd, 1) := by decide +kernel
theorem dL_law_651 : decode cL_law 651 = .ok (.iaload, 1) := by decide +kernel
theorem dL_law_652 : decode cL_law 652 = .ok (.invokevirtual 69, 3) := by decide +kernel
theorem dL_law_655 : decode cL_law 655 = .ok (.if_icmp .eq 602, 3) := by decide +kernel
theorem dL_law_658 : decode cL_law 658 = .ok (.iconst 0, 1) := by decide +kernel
theorem dL_law_659 : decode cL_law 659 = .ok (.ireturn, 1) := by decide +kernel
theorem dL_law_660 : decode cL_law 660 = .ok (.aload_n 1, 1) := by decide +kernel
theorem dL_law_661 : decode cL_law 661 = .ok (.aload_n 0, 1) := by decide +kernel
theorem dL_law_662 : decode cL_law 662 = .ok (.iload_n 3, 1) := by decide +kernel
theorem dL_law_663 : decode cL_law 663 = .ok (.iconst 1, 1) := by decide +kernel
theorem dL_law_664 : decode cL_law 664 = .ok (.iadd, 1) := by decide +kernel
theorem dL_law_665 : decode cL_law 665 = .ok (.iaload, 1) := by decide +kernel
theorem dL_law_666 : decode cL_law 666 = .ok (.aload_n 0, 1) := by decide +kernel
theorem dL_law_667 : decode cL_law 667 = .ok (.iload_n 3, 1) := by decide +kernel
theorem dL_law_668 : decode cL_law 668 = .ok (.iconst 2, 1) := by decide +kernel
theorem dL_law_669 : decode cL_law 669 = .ok (.iadd, 1) := by decide +kernel
theorem dL_law_670 : decode cL_law 670 = .ok (.iaload, 1) := by decide +kernel
theorem dL_law_671 : decode cL_law 671 = .ok (.invokevirtual 70, 3) := by decide +kernel
theorem dL_law_674 : decode cL_law 674 = .ok (.aload_n 2, 1) := by decide +kernel
theorem dL_law_675 : decode cL_law 675 = .ok (.aload_n 0, 1) := by decide +kernel
theorem dL_law_676 : decode cL_law 676 = .ok (.iload_n 3, 1) := by decide +kernel
theorem dL_law_677 : decode cL_law 677 = .ok (.iconst 1, 1) := by decide +kernel
theorem dL_law_678 : decode cL_law 678 = .ok (.iadd, 1) := by decide +kernel
theorem dL_law_679 : decode cL_law 679 = .ok (.iaload, 1) := by decide +kernel
theorem dL_law_680 : decode cL_law 680 = .ok (.aload_n 0, 1) := by decide +kernel
theorem dL_law_681 : decode cL_law 681 = .ok (.iload_n 3, 1) := by decide +kernel
theorem dL_law_682 : decode cL_law 682 = .ok (.iconst 2, 1) := by decide +kernel
theorem dL_law_683 : decode cL_law 683 = .ok (.iadd, 1) := by decide +kernel
theorem dL_law_684 : decode cL_law 684 = .ok (.iaload, 1) := by decide +kernel
theorem dL_law_685 : decode cL_law 685 = .ok (.invokevirtual 73, 3) := by decide +kernel
theorem dL_law_688 : decode cL_law 688 = .ok (.if_icmp .eq 569, 3) := by decide +kernel
theorem dL_law_691 : decode cL_law 691 = .ok (.iconst 0, 1) := by decide +kernel
theorem dL_law_692 : decode cL_law 692 = .ok (.ireturn, 1) := by decide +kernel
theorem dL_law_693 : decode cL_law 693 = .ok (.aload_n 1, 1) := by decide +kernel
theorem dL_law_694 : decode cL_law 694 = .ok (.aload_n 0, 1) := by decide +kernel
theorem dL_law_695 : decode cL_law 695 = .ok (.iload_n 3, 1) := by decide +kernel
theorem dL_law_696 : decode cL_law 696 = .ok (.iconst 1, 1) := by decide +kernel
theorem dL_law_697 : decode cL_law 697 = .ok (.iadd, 1) := by decide +kernel
theorem dL_law_698 : decode cL_law 698 = .ok (.iaload, 1) := by decide +kernel
theorem dL_law_699 : decode cL_law 699 = .ok (.invokevirtual 74, 3) := by decide +kernel
theorem dL_law_702 : decode cL_law 702 = .ok (.aload_n 2, 1) := by decide +kernel
theorem dL_law_703 : decode cL_law 703 = .ok (.aload_n 0, 1) := by decide +kernel
theorem dL_law_704 : decode cL_law 704 = .ok (.iload_n 3, 1) := by decide +kernel
theorem dL_law_705 : decode cL_law 705 = .ok (.iconst 1, 1) := by decide +kernel
theorem dL_law_706 : decode cL_law 706 = .ok (.iadd, 1) := by decide +kernel
theorem dL_law_707 : decode cL_law 707 = .ok (.iaload, 1) := by decide +kernel
theorem dL_law_708 : decode cL_law 708 = .ok (.invokevirtual 77, 3) := by decide +kernel
theorem dL_law_711 : decode cL_law 711 = .ok (.if_icmp .eq 546, 3) := by decide +kernel
theorem dL_law_714 : decode cL_law 714 = .ok (.iconst 0, 1) := by decide +kernel
theorem dL_law_715 : decode cL_law 715 = .ok (.ireturn, 1) := by decide +kernel
theorem dL_law_716 : decode cL_law 716 = .ok (.aload_n 1, 1) := by decide +kernel
theorem dL_law_717 : decode cL_law 717 = .ok (.aload_n 0, 1) := by decide +kernel
theorem dL_law_718 : decode cL_law 718 = .ok (.iload_n 3, 1) := by decide +kernel
theorem dL_law_719 : decode cL_law 719 = .ok (.iconst 1, 1) := by decide +kernel
theorem dL_law_720 : decode cL_law 720 = .ok (.iadd, 1) := by decide +kernel
theorem dL_law_721 : decode cL_law 721 = .ok (.iaload, 1) := by decide +kernel
theorem dL_law_722 : decode cL_law 722 = .ok (.aload_n 0, 1) := by decide +kernel
theorem dL_law_723 : decode cL_law 723 = .ok (.iload_n 3, 1) := by decide +kernel
theorem dL_law_724 : decode cL_law 724 = .ok (.iconst 2, 1) := by decide +kernel
theorem dL_law_725 : decode cL_law 725 = .ok (.iadd, 1) := by decide +kernel
theorem dL_law_726 : decode cL_law 726 = .ok (.iaload, 1) := by decide +kernel
theorem dL_law_727 : decode cL_law 727 = .ok (.invokevirtual 78, 3) := by decide +kernel
theorem dL_law_730 : decode cL_law 730 = .ok (.aload_n 2, 1) := by decide +kernel
theorem dL_law_731 : decode cL_law 731 = .ok (.aload_n 0, 1) := by decide +kernel
theorem dL_law_732 : decode cL_law 732 = .ok (.iload_n 3, 1) := by decide +kernel
theorem dL_law_733 : decode cL_law 733 = .ok (.iconst 1, 1) := by decide +kernel
theorem dL_law_734 : decode cL_law 734 = .ok (.iadd, 1) := by decide +kernel
theorem dL_law_735 : decode cL_law 735 = .ok (.iaload, 1) := by decide +kernel
theorem dL_law_736 : decode cL_law 736 = .ok (.aload_n 0, 1) := by decide +kernel
theorem dL_law_737 : decode cL_law 737 = .ok (.iload_n 3, 1) := by decide +kernel
theorem dL_law_738 : decode cL_law 738 = .ok (.iconst 2, 1) := by decide +kernel
theorem dL_law_739 : decode cL_law 739 = .ok (.iadd, 1) := by decide +kernel
theorem dL_law_740 : decode cL_law 740 = .ok (.iaload, 1) := by decide +kernel
theorem dL_law_741 : decode cL_law 741 = .ok (.invokevirtual 81, 3) := by decide +kernel
theorem dL_law_744 : decode cL_law 744 = .ok (.if_icmp .eq 513, 3) := by decide +kernel
theorem dL_law_747 : decode cL_law 747 = .ok (.iconst 0, 1) := by decide +kernel
theorem dL_law_748 : decode cL_law 748 = .ok (.ireturn, 1) := by decide +kernel
theorem dL_law_749 : decode cL_law 749 = .ok (.aload_n 1, 1) := by decide +kernel
theorem dL_law_750 : decode cL_law 750 = .ok (.aload_n 0, 1) := by decide +kernel
theorem dL_law_751 : decode cL_law 751 = .ok (.iload_n 3, 1) := by decide +kernel
theorem dL_law_752 : decode cL_law 752 = .ok (.iconst 1, 1) := by decide +kernel
theorem dL_law_753 : decode cL_law 753 = .ok (.iadd, 1) := by decide +kernel
theorem dL_law_754 : decode cL_law 754 = .ok (.iaload, 1) := by decide +kernel
theorem dL_law_755 : decode cL_law 755 = .ok (.invokevirtual 82, 3) := by decide +kernel
theorem dL_law_758 : decode cL_law 758 = .ok (.aload_n 2, 1) := by decide +kernel
theorem dL_law_759 : decode cL_law 759 = .ok (.aload_n 0, 1) := by decide +kernel
theorem dL_law_760 : decode cL_law 760 = .ok (.iload_n 3, 1) := by decide +kernel
theorem dL_law_761 : decode cL_law 761 = .ok (.iconst 1, 1) := by decide +kernel
theorem dL_law_762 : decode cL_law 762 = .ok (.iadd, 1) := by decide +kernel
theorem dL_law_763 : decode cL_law 763 = .ok (.iaload, 1) := by decide +kernel
theorem dL_law_764 : decode cL_law 764 = .ok (.invokevirtual 85, 3) := by decide +kernel
theorem dL_law_767 : decode cL_law 767 = .ok (.if_icmp .eq 490, 3) := by decide +kernel
theorem dL_law_770 : decode cL_law 770 = .ok (.iconst 0, 1) := by decide +kernel
theorem dL_law_771 : decode cL_law 771 = .ok (.ireturn, 1) := by decide +kernel
theorem dL_law_772 : decode cL_law 772 = .ok (.aload_n 1, 1) := by decide +kernel
theorem dL_law_773 : decode cL_law 773 = .ok (.invokevirtual 86, 3) := by decide +kernel
theorem dL_law_776 : decode cL_law 776 = .ok (.aload_n 2, 1) := by decide +kernel
theorem dL_law_777 : decode cL_law 777 = .ok (.invokevirtual 89, 3) := by decide +kernel
theorem dL_law_780 : decode cL_law 780 = .ok (.if_icmp .eq 477, 3) := by decide +kernel
theorem dL_law_783 : decode cL_law 783 = .ok (.iconst 0, 1) := by decide +kernel
theorem dL_law_784 : decode cL_law 784 = .ok (.ireturn, 1) := by decide +kernel
theorem dL_law_785 : decode cL_law 785 = .ok (.aload_n 1, 1) := by decide +kernel
theorem dL_law_786 : decode cL_law 786 = .ok (.aload_n 0, 1) := by decide +kernel
theorem dL_law_787 : decode cL_law 787 = .ok (.iload_n 3, 1) := by decide +kernel
theorem dL_law_788 : decode cL_law 788 = .ok (.iconst 1, 1) := by decide +kernel
theorem dL_law_789 : decode cL_law 789 = .ok (.iadd, 1) := by decide +kernel
theorem dL_law_790 : decode cL_law 790 = .ok (.iaload, 1) := by decide +kernel
theorem dL_law_791 : decode cL_law 791 = .ok (.aload_n 0, 1) := by decide +kernel
theorem dL_law_792 : decode cL_law 792 = .ok (.iload_n 3, 1) := by decide +kernel
theorem dL_law_793 : decode cL_law 793 = .ok (.iconst 2, 1) := by decide +kernel
theorem dL_law_794 : decode cL_law 794 = .ok (.iadd, 1) := by decide +kernel
theorem dL_law_795 : decode cL_law 795 = .ok (.iaload, 1) := by decide +kernel
theorem dL_law_796 : decode cL_law 796 = .ok (.invokevirtual 90, 3) := by decide +kernel
theorem dL_law_799 : decode cL_law 799 = .ok (.aload_n 2, 1) := by decide +kernel
theorem dL_law_800 : decode cL_law 800 = .ok (.aload_n 0, 1) := by decide +kernel
theorem dL_law_801 : decode cL_law 801 = .ok (.iload_n 3, 1) := by decide +kernel
theorem dL_law_802 : decode cL_law 802 = .ok (.iconst 1, 1) := by decide +kernel
theorem dL_law_803 : decode cL_law 803 = .ok (.iadd, 1) := by decide +kernel
theorem dL_law_804 : decode cL_law 804 = .ok (.iaload, 1) := by decide +kernel
theorem dL_law_805 : decode cL_law 805 = .ok (.aload_n 0, 1) := by decide +kernel
theorem dL_law_806 : decode cL_law 806 = .ok (.iload_n 3, 1) := by decide +kernel
theorem dL_law_807 : decode cL_law 807 = .ok (.iconst 2, 1) := by decide +kernel
theorem dL_law_808 : decode cL_law 808 = .ok (.iadd, 1) := by decide +kernel
theorem dL_law_809 : decode cL_law 809 = .ok (.iaload, 1) := by decide +kernel
theorem dL_law_810 : decode cL_law 810 = .ok (.invokevirtual 93, 3) := by decide +kernel
theorem dL_law_813 : decode cL_law 813 = .ok (.if_icmp .eq 444, 3) := by decide +kernel
theorem dL_law_816 : decode cL_law 816 = .ok (.iconst 0, 1) := by decide +kernel
theorem dL_law_817 : decode cL_law 817 = .ok (.ireturn, 1) := by decide +kernel
theorem dL_law_818 : decode cL_law 818 = .ok (.aload_n 1, 1) := by decide +kernel
theorem dL_law_819 : decode cL_law 819 = .ok (.aload_n 0, 1) := by decide +kernel
theorem dL_law_820 : decode cL_law 820 = .ok (.iload_n 3, 1) := by decide +kernel
theorem dL_law_821 : decode cL_law 821 = .ok (.iconst 1, 1) := by decide +kernel
theorem dL_law_822 : decode cL_law 822 = .ok (.iadd, 1) := by decide +kernel
theorem dL_law_823 : decode cL_law 823 = .ok (.iaload, 1) := by decide +kernel
theorem dL_law_824 : decode cL_law 824 = .ok (.invokevirtual 94, 3) := by decide +kernel
theorem dL_law_827 : decode cL_law 827 = .ok (.aload_n 2, 1) := by decide +kernel
theorem dL_law_828 : decode cL_law 828 = .ok (.aload_n 0, 1) := by decide +kernel
theorem dL_law_829 : decode cL_law 829 = .ok (.iload_n 3, 1) := by decide +kernel
theorem dL_law_830 : decode cL_law 830 = .ok (.iconst 1, 1) := by decide +kernel
theorem dL_law_831 : decode cL_law 831 = .ok (.iadd, 1) := by decide +kernel
theorem dL_law_832 : decode cL_law 832 = .ok (.iaload, 1) := by decide +kernel
theorem dL_law_833 : decode cL_law 833 = .ok (.invokevirtual 97, 3) := by decide +kernel
theorem dL_law_836 : decode cL_law 836 = .ok (.if_icmp .eq 421, 3) := by decide +kernel
theorem dL_law_839 : decode cL_law 839 = .ok (.iconst 0, 1) := by decide +kernel
theorem dL_law_840 : decode cL_law 840 = .ok (.ireturn, 1) := by decide +kernel
theorem dL_law_841 : decode cL_law 841 = .ok (.aload_n 1, 1) := by decide +kernel
theorem dL_law_842 : decode cL_law 842 = .ok (.invokevirtual 98, 3) := by decide +kernel
theorem dL_law_845 : decode cL_law 845 = .ok (.aload_n 2, 1) := by decide +kernel
theorem dL_law_846 : decode cL_law 846 = .ok (.invokevirtual 101, 3) := by decide +kernel
theorem dL_law_849 : decode cL_law 849 = .ok (.if_icmp .eq 408, 3) := by decide +kernel
theorem dL_law_852 : decode cL_law 852 = .ok (.iconst 0, 1) := by decide +kernel
theorem dL_law_853 : decode cL_law 853 = .ok (.ireturn, 1) := by decide +kernel
theorem dL_law_854 : decode cL_law 854 = .ok (.aload_n 1, 1) := by decide +kernel
theorem dL_law_855 : decode cL_law 855 = .ok (.aload_n 0, 1) := by decide +kernel
theorem dL_law_856 : decode cL_law 856 = .ok (.iload_n 3, 1) := by decide +kernel
theorem dL_law_857 : decode cL_law 857 = .ok (.iconst 1, 1) := by decide +kernel
theorem dL_law_858 : decode cL_law 858 = .ok (.iadd, 1) := by decide +kernel
theorem dL_law_859 : decode cL_law 859 = .ok (.iaload, 1) := by decide +kernel
theorem dL_law_860 : decode cL_law 860 = .ok (.aload_n 0, 1) := by decide +kernel
theorem dL_law_861 : decode cL_law 861 = .ok (.iload_n 3, 1) := by decide +kernel
theorem dL_law_862 : decode cL_law 862 = .ok (.iconst 2, 1) := by decide +kernel
theorem dL_law_863 : decode cL_law 863 = .ok (.iadd, 1) := by decide +kernel
theorem dL_law_864 : decode cL_law 864 = .ok (.iaload, 1) := by decide +kernel
theorem dL_law_865 : decode cL_law 865 = .ok (.invokevirtual 102, 3) := by decide +kernel
theorem dL_law_868 : decode cL_law 868 = .ok (.aload_n 2, 1) := by decide +kernel
theorem dL_law_869 : decode cL_law 869 = .ok (.aload_n 0, 1) := by decide +kernel
theorem dL_law_870 : decode cL_law 870 = .ok (.iload_n 3, 1) := by decide +kernel
theorem dL_law_871 : decode cL_law 871 = .ok (.iconst 1, 1) := by decide +kernel
theorem dL_law_872 : decode cL_law 872 = .ok (.iadd, 1) := by decide +kernel
theorem dL_law_873 : decode cL_law 873 = .ok (.iaload, 1) := by decide +kernel
theorem dL_law_874 : decode cL_law 874 = .ok (.aload_n 0, 1) := by decide +kernel
theorem dL_law_875 : decode cL_law 875 = .ok (.iload_n 3, 1) := by decide +kernel
theorem dL_law_876 : decode cL_law 876 = .ok (.iconst 2, 1) := by decide +kernel
theorem dL_law_877 : decode cL_law 877 = .ok (.iadd, 1) := by decide +kernel
theorem dL_law_878 : decode cL_law 878 = .ok (.iaload, 1) := by decide +kernel
theorem dL_law_879 : decode cL_law 879 = .ok (.invokevirtual 105, 3) := by decide +kernel
theorem dL_law_882 : decode cL_law 882 = .ok (.if_icmp .eq 375, 3) := by decide +kernel
theorem dL_law_885 : decode cL_law 885 = .ok (.iconst 0, 1) := by decide +kernel
theorem dL_law_886 : decode cL_law 886 = .ok (.ireturn, 1) := by decide +kernel
theorem dL_law_887 : decode cL_law 887 = .ok (.aload_n 1, 1) := by decide +kernel
theorem dL_law_888 : decode cL_law 888 = .ok (.aload_n 0, 1) := by decide +kernel
theorem dL_law_889 : decode cL_law 889 = .ok (.iload_n 3, 1) := by decide +kernel
theorem dL_law_890 : decode cL_law 890 = .ok (.iconst 1, 1) := by decide +kernel
theorem dL_law_891 : decode cL_law 891 = .ok (.iadd, 1) := by decide +kernel
theorem dL_law_892 : decode cL_law 892 = .ok (.iaload, 1) := by decide +kernel
theorem dL_law_893 : decode cL_law 893 = .ok (.invokevirtual 106, 3) := by decide +kernel
theorem dL_law_896 : decode cL_law 896 = .ok (.aload_n 2, 1) := by decide +kernel
theorem dL_law_897 : decode cL_law 897 = .ok (.aload_n 0, 1) := by decide +kernel
theorem dL_law_898 : decode cL_law 898 = .ok (.iload_n 3, 1) := by decide +kernel
theorem dL_law_899 : decode cL_law 899 = .ok (.iconst 1, 1) := by decide +kernel
theorem dL_law_900 : decode cL_law 900 = .ok (.iadd, 1) := by decide +kernel
theorem dL_law_901 : decode cL_law 901 = .ok (.iaload, 1) := by decide +kernel
theorem dL_law_902 : decode cL_law 902 = .ok (.invokevirtual 109, 3) := by decide +kernel
theorem dL_law_905 : decode cL_law 905 = .ok (.if_icmp .eq 352, 3) := by decide +kernel
theorem dL_law_908 : decode cL_law 908 = .ok (.iconst 0, 1) := by decide +kernel
theorem dL_law_909 : decode cL_law 909 = .ok (.ireturn, 1) := by decide +kernel
theorem dL_law_910 : decode cL_law 910 = .ok (.aload_n 1, 1) := by decide +kernel
theorem dL_law_911 : decode cL_law 911 = .ok (.invokevirtual 110, 3) := by decide +kernel
theorem dL_law_914 : decode cL_law 914 = .ok (.aload_n 2, 1) := by decide +kernel
theorem dL_law_915 : decode cL_law 915 = .ok (.invokevirtual 113, 3) := by decide +kernel
theorem dL_law_918 : decode cL_law 918 = .ok (.if_icmp .eq 339, 3) := by decide +kernel
theorem dL_law_921 : decode cL_law 921 = .ok (.iconst 0, 1) := by decide +kernel
theorem dL_law_922 : decode cL_law 922 = .ok (.ireturn, 1) := by decide +kernel
theorem dL_law_923 : decode cL_law 923 = .ok (.aload_n 1, 1) := by decide +kernel
theorem dL_law_924 : decode cL_law 924 = .ok (.aload_n 0, 1) := by decide +kernel
theorem dL_law_925 : decode cL_law 925 = .ok (.iload_n 3, 1) := by decide +kernel
theorem dL_law_926 : decode cL_law 926 = .ok (.iconst 1, 1) := by decide +kernel
theorem dL_law_927 : decode cL_law 927 = .ok (.iadd, 1) := by decide +kernel
theorem dL_law_928 : decode cL_law 928 = .ok (.iaload, 1) := by decide +kernel
theorem dL_law_929 : decode cL_law 929 = .ok (.aload_n 0, 1) := by decide +kernel
theorem dL_law_930 : decode cL_law 930 = .ok (.iload_n 3, 1) := by decide +kernel
theorem dL_law_931 : decode cL_law 931 = .ok (.iconst 2, 1) := by decide +kernel
theorem dL_law_932 : decode cL_law 932 = .ok (.iadd, 1) := by decide +kernel
theorem dL_law_933 : decode cL_law 933 = .ok (.iaload, 1) := by decide +kernel
theorem dL_law_934 : decode cL_law 934 = .ok (.aload_n 0, 1) := by decide +kernel
theorem dL_law_935 : decode cL_law 935 = .ok (.iload_n 3, 1) := by decide +kernel
theorem dL_law_936 : decode cL_law 936 = .ok (.iconst 3, 1) := by decide +kernel
theorem dL_law_937 : decode cL_law 937 = .ok (.iadd, 1) := by decide +kernel
theorem dL_law_938 : decode cL_law 938 = .ok (.iaload, 1) := by decide +kernel
theorem dL_law_939 : decode cL_law 939 = .ok (.aload_n 0, 1) := by decide +kernel
theorem dL_law_940 : decode cL_law 940 = .ok (.iload_n 3, 1) := by decide +kernel
theorem dL_law_941 : decode cL_law 941 = .ok (.iconst 4, 1) := by decide +kernel
theorem dL_law_942 : decode cL_law 942 = .ok (.iadd, 1) := by decide +kernel
theorem dL_law_943 : decode cL_law 943 = .ok (.iaload, 1) := by decide +kernel
theorem dL_law_944 : decode cL_law 944 = .ok (.aload_n 0, 1) := by decide +kernel
theorem dL_law_945 : decode cL_law 945 = .ok (.iload_n 3, 1) := by decide +kernel
theorem dL_law_946 : decode cL_law 946 = .ok (.iconst 5, 1) := by decide +kernel
theorem dL_law_947 : decode cL_law 947 = .ok (.iadd, 1) := by decide +kernel
theorem dL_law_948 : decode cL_law 948 = .ok (.iaload, 1) := by decide +kernel
theorem dL_law_949 : decode cL_law 949 = .ok (.aload_n 0, 1) := by decide +kernel
theorem dL_law_950 : decode cL_law 950 = .ok (.iload_n 3, 1) := by decide +kernel
theorem dL_law_951 : decode cL_law 951 = .ok (.bipush 6, 2) := by decide +kernel
theorem dL_law_953 : decode cL_law 953 = .ok (.iadd, 1) := by decide +kernel
theorem dL_law_954 : decode cL_law 954 = .ok (.iaload, 1) := by decide +kernel
theorem dL_law_955 : decode cL_law 955 = .ok (.aload_n 0, 1) := by decide +kernel
theorem dL_law_956 : decode cL_law 956 = .ok (.iload_n 3, 1) := by decide +kernel
theorem dL_law_957 : decode cL_law 957 = .ok (.bipush 7, 2) := by decide +kernel
theorem dL_law_959 : decode cL_law 959 = .ok (.iadd, 1) := by decide +kernel
theorem dL_law_960 : decode cL_law 960 = .ok (.iaload, 1) := by decide +kernel
theorem dL_law_961 : decode cL_law 961 = .ok (.invokevirtual 114, 3) := by decide +kernel
theorem dL_law_964 : decode cL_law 964 = .ok (.aload_n 2, 1) := by decide +kernel
theorem dL_law_965 : decode cL_law 965 = .ok (.aload_n 0, 1) := by decide +kernel
theorem dL_law_966 : decode cL_law 966 = .ok (.iload_n 3, 1) := by decide +kernel
theorem dL_law_967 : decode cL_law 967 = .ok (.iconst 1, 1) := by decide +kernel
theorem dL_law_968 : decode cL_law 968 = .ok (.iadd, 1) := by decide +kernel
theorem dL_law_969 : decode cL_law 969 = .ok (.iaload, 1) := by decide +kernel
theorem dL_law_970 : decode cL_law 970 = .ok (.aload_n 0, 1) := by decide +kernel
theorem dL_law_971 : decode cL_law 971 = .ok (.iload_n 3, 1) := by decide +kernel
theorem dL_law_972 : decode cL_law 972 = .ok (.iconst 2, 1) := by decide +kernel
theorem dL_law_973 : decode cL_law 973 = .ok (.iadd, 1) := by decide +kernel
theorem dL_law_974 : decode cL_law 974 = .ok (.iaload, 1) := by decide +kernel
theorem dL_law_975 : decode cL_law 975 = .ok (.aload_n 0, 1) := by decide +kernel
theorem dL_law_976 : decode cL_law 976 = .ok (.iload_n 3, 1) := by decide +kernel
theorem dL_law_977 : decode cL_law 977 = .ok (.iconst 3, 1) := by decide +kernel
theorem dL_law_978 : decode cL_law 978 = .ok (.iadd, 1) := by decide +kernel
theorem dL_law_979 : decode cL_law 979 = .ok (.iaload, 1) := by decide +kernel
theorem dL_law_980 : decode cL_law 980 = .ok (.aload_n 0, 1) := by decide +kernel
theorem dL_law_981 : decode cL_law 981 = .ok (.iload_n 3, 1) := by decide +kernel
theorem dL_law_982 : decode cL_law 982 = .ok (.iconst 4, 1) := by decide +kernel
theorem dL_law_983 : decode cL_law 983 = .ok (.iadd, 1) := by decide +kernel
theorem dL_law_984 : decode cL_law 984 = .ok (.iaload, 1) := by decide +kernel
theorem dL_law_985 : decode cL_law 985 = .ok (.aload_n 0, 1) := by decide +kernel
theorem dL_law_986 : decode cL_law 986 = .ok (.iload_n 3, 1) := by decide +kernel
theorem dL_law_987 : decode cL_law 987 = .ok (.iconst 5, 1) := by decide +kernel
theorem dL_law_988 : decode cL_law 988 = .ok (.iadd, 1) := by decide +kernel
theorem dL_law_989 : decode cL_law 989 = .ok (.iaload, 1) := by decide +kernel
theorem dL_law_990 : decode cL_law 990 = .ok (.aload_n 0, 1) := by decide +kernel
theorem dL_law_991 : decode cL_law 991 = .ok (.iload_n 3, 1) := by decide +kernel
theorem dL_law_992 : decode cL_law 992 = .ok (.bipush 6, 2) := by decide +kernel
theorem dL_law_994 : decode cL_law 994 = .ok (.iadd, 1) := by decide +kernel
theorem dL_law_995 : decode cL_law 995 = .ok (.iaload, 1) := by decide +kernel
theorem dL_law_996 : decode cL_law 996 = .ok (.aload_n 0, 1) := by decide +kernel
theorem dL_law_997 : decode cL_law 997 = .ok (.iload_n 3, 1) := by decide +kernel
theorem dL_law_998 : decode cL_law 998 = .ok (.bipush 7, 2) := by decide +kernel
theorem dL_law_1000 : decode cL_law 1000 = .ok (.iadd, 1) := by decide +kernel
theorem dL_law_1001 : decode cL_law 1001 = .ok (.iaload, 1) := by decide +kernel
theorem dL_law_1002 : decode cL_law 1002 = .ok (.invokevirtual 117, 3) := by decide +kernel
theorem dL_law_1005 : decode cL_law 1005 = .ok (.if_icmp .eq 252, 3) := by decide +kernel
theorem dL_law_1008 : decode cL_law 1008 = .ok (.iconst 0, 1) := by decide +kernel
theorem dL_law_1009 : decode cL_law 1009 = .ok (.ireturn, 1) := by decide +kernel
theorem dL_law_1010 : decode cL_law 1010 = .ok (.aload_n 1, 1) := by decide +kernel
theorem dL_law_1011 : decode cL_law 1011 = .ok (.aload_n 0, 1) := by decide +kernel
theorem dL_law_1012 : decode cL_law 1012 = .ok (.iload_n 3, 1) := by decide +kernel
theorem dL_law_1013 : decode cL_law 1013 = .ok (.iconst 1, 1) := by decide +kernel
theorem dL_law_1014 : decode cL_law 1014 = .ok (.iadd, 1) := by decide +kernel
theorem dL_law_1015 : decode cL_law 1015 = .ok (.iaload, 1) := by decide +kernel
theorem dL_law_1016 : decode cL_law 1016 = .ok (.aload_n 0, 1) := by decide +kernel
theorem dL_law_1017 : decode cL_law 1017 = .ok (.iload_n 3, 1) := by decide +kernel
theorem dL_law_1018 : decode cL_law 1018 = .ok (.iconst 2, 1) := by decide +kernel
theorem dL_law_1019 : decode cL_law 1019 = .ok (.iadd, 1) := by decide +kernel
theorem dL_law_1020 : decode cL_law 1020 = .ok (.iaload, 1) := by decide +kernel
theorem dL_law_1021 : decode cL_law 1021 = .ok (.invokevirtual 118, 3) := by decide +kernel
theorem dL_law_1024 : decode cL_law 1024 = .ok (.aload_n 2, 1) := by decide +kernel
theorem dL_law_1025 : decode cL_law 1025 = .ok (.aload_n 0, 1) := by decide +kernel
theorem dL_law_1026 : decode cL_law 1026 = .ok (.iload_n 3, 1) := by decide +kernel
theorem dL_law_1027 : decode cL_law 1027 = .ok (.iconst 1, 1) := by decide +kernel
theorem dL_law_1028 : decode cL_law 1028 = .ok (.iadd, 1) := by decide +kernel
theorem dL_law_1029 : decode cL_law 1029 = .ok (.iaload, 1) := by decide +kernel
theorem dL_law_1030 : decode cL_law 1030 = .ok (.aload_n 0, 1) := by decide +kernel
theorem dL_law_1031 : decode cL_law 1031 = .ok (.iload_n 3, 1) := by decide +kernel
theorem dL_law_1032 : decode cL_law 1032 = .ok (.iconst 2, 1) := by decide +kernel
theorem dL_law_1033 : decode cL_law 1033 = .ok (.iadd, 1) := by decide +kernel
theorem dL_law_1034 : decode cL_law 1034 = .ok (.iaload, 1) := by decide +kernel
theorem dL_law_1035 : decode cL_law 1035 = .ok (.invokevirtual 121, 3) := by decide +kernel
theorem dL_law_1038 : decode cL_law 1038 = .ok (.if_icmp .eq 219, 3) := by decide +kernel
theorem dL_law_1041 : decode cL_law 1041 = .ok (.iconst 0, 1) := by decide +kernel
theorem dL_law_1042 : decode cL_law 1042 = .ok (.ireturn, 1) := by decide +kernel
theorem dL_law_1043 : decode cL_law 1043 = .ok (.aload_n 1, 1) := by decide +kernel
theorem dL_law_1044 : decode cL_law 1044 = .ok (.invokevirtual 122, 3) := by decide +kernel
theorem dL_law_1047 : decode cL_law 1047 = .ok (.aload_n 2, 1) := by decide +kernel
theorem dL_law_1048 : decode cL_law 1048 = .ok (.invokevirtual 125, 3) := by decide +kernel
theorem dL_law_1051 : decode cL_law 1051 = .ok (.if_icmp .eq 206, 3) := by decide +kernel
theorem dL_law_1054 : decode cL_law 1054 = .ok (.iconst 0, 1) := by decide +kernel
theorem dL_law_1055 : decode cL_law 1055 = .ok (.ireturn, 1) := by decide +kernel
theorem dL_law_1056 : decode cL_law 1056 = .ok (.aload_n 1, 1) := by decide +kernel
theorem dL_law_1057 : decode cL_law 1057 = .ok (.aload_n 0, 1) := by decide +kernel
theorem dL_law_1058 : decode cL_law 1058 = .ok (.iload_n 3, 1) := by decide +kernel
theorem dL_law_1059 : decode cL_law 1059 = .ok (.iconst 1, 1) := by decide +kernel
theorem dL_law_1060 : decode cL_law 1060 = .ok (.iadd, 1) := by decide +kernel
theorem dL_law_1061 : decode cL_law 1061 = .ok (.iaload, 1) := by decide +kernel
theorem dL_law_1062 : decode cL_law 1062 = .ok (.aload_n 0, 1) := by decide +kernel
theorem dL_law_1063 : decode cL_law 1063 = .ok (.iload_n 3, 1) := by decide +kernel
theorem dL_law_1064 : decode cL_law 1064 = .ok (.iconst 2, 1) := by decide +kernel
theorem dL_law_1065 : decode cL_law 1065 = .ok (.iadd, 1) := by decide +kernel
theorem dL_law_1066 : decode cL_law 1066 = .ok (.iaload, 1) := by decide +kernel
theorem dL_law_1067 : decode cL_law 1067 = .ok (.aload_n 0, 1) := by decide +kernel
theorem dL_law_1068 : decode cL_law 1068 = .ok (.iload_n 3, 1) := by decide +kernel
theorem dL_law_1069 : decode cL_law 1069 = .ok (.iconst 3, 1) := by decide +kernel
theorem dL_law_1070 : decode cL_law 1070 = .ok (.iadd, 1) := by decide +kernel
theorem dL_law_1071 : decode cL_law 1071 = .ok (.iaload, 1) := by decide +kernel
theorem dL_law_1072 : decode cL_law 1072 = .ok (.aload_n 0, 1) := by decide +kernel
theorem dL_law_1073 : decode cL_law 1073 = .ok (.iload_n 3, 1) := by decide +kernel
theorem dL_law_1074 : decode cL_law 1074 = .ok (.iconst 4, 1) := by decide +kernel
theorem dL_law_1075 : decode cL_law 1075 = .ok (.iadd, 1) := by decide +kernel
theorem dL_law_1076 : decode cL_law 1076 = .ok (.iaload, 1) := by decide +kernel
theorem dL_law_1077 : decode cL_law 1077 = .ok (.invokevirtual 126, 3) := by decide +kernel
theorem dL_law_1080 : decode cL_law 1080 = .ok (.aload_n 2, 1) := by decide +kernel
theorem dL_law_1081 : decode cL_law 1081 = .ok (.aload_n 0, 1) := by decide +kernel
theorem dL_law_1082 : decode cL_law 1082 = .ok (.iload_n 3, 1) := by decide +kernel
theorem dL_law_1083 : decode cL_law 1083 = .ok (.iconst 1, 1) := by decide +kernel
theorem dL_law_1084 : decode cL_law 1084 = .ok (.iadd, 1) := by decide +kernel
theorem dL_law_1085 : decode cL_law 1085 = .ok (.iaload, 1) := by decide +kernel
theorem dL_law_1086 : decode cL_law 1086 = .ok (.aload_n 0, 1) := by decide +kernel
theorem dL_law_1087 : decode cL_law 1087 = .ok (.iload_n 3, 1) := by decide +kernel
theorem dL_law_1088 : decode cL_law 1088 = .ok (.iconst 2, 1) := by decide +kernel
theorem dL_law_1089 : decode cL_law 1089 = .ok (.iadd, 1) := by decide +kernel
theorem dL_law_1090 : decode cL_law 1090 = .ok (.iaload, 1) := by decide +kernel
theorem dL_law_1091 : decode cL_law 1091 = .ok (.aload_n 0, 1) := by decide +kernel
theorem dL_law_1092 : decode cL_law 1092 = .ok (.iload_n 3, 1) := by decide +kernel
theorem dL_law_1093 : decode cL_law 1093 = .ok (.iconst 3, 1) := by decide +kernel
theorem dL_law_1094 : decode cL_law 1094 = .ok (.iadd, 1) := by decide +kernel
theorem dL_law_1095 : decode cL_law 1095 = .ok (.iaload, 1) := by decide +kernel
theorem dL_law_1096 : decode cL_law 1096 = .ok (.aload_n 0, 1) := by decide +kernel
theorem dL_law_1097 : decode cL_law 1097 = .ok (.iload_n 3, 1) := by decide +kernel
theorem dL_law_1098 : decode cL_law 1098 = .ok (.iconst 4, 1) := by decide +kernel
theorem dL_law_1099 : decode cL_law 1099 = .ok (.iadd, 1) := by decide +kernel
theorem dL_law_1100 : decode cL_law 1100 = .ok (.iaload, 1) := by decide +kernel
theorem dL_law_1101 : decode cL_law 1101 = .ok (.invokevirtual 129, 3) := by decide +kernel
theorem dL_law_1104 : decode cL_law 1104 = .ok (.if_icmp .eq 153, 3) := by decide +kernel
theorem dL_law_1107 : decode cL_law 1107 = .ok (.iconst 0, 1) := by decide +kernel
theorem dL_law_1108 : decode cL_law 1108 = .ok (.ireturn, 1) := by decide +kernel
theorem dL_law_1109 : decode cL_law 1109 = .ok (.aload_n 1, 1) := by decide +kernel
theorem dL_law_1110 : decode cL_law 1110 = .ok (.aload_n 0, 1) := by decide +kernel
theorem dL_law_1111 : decode cL_law 1111 = .ok (.iload_n 3, 1) := by decide +kernel
theorem dL_law_1112 : decode cL_law 1112 = .ok (.iconst 1, 1) := by decide +kernel
theorem dL_law_1113 : decode cL_law 1113 = .ok (.iadd, 1) := by decide +kernel
theorem dL_law_1114 : decode cL_law 1114 = .ok (.iaload, 1) := by decide +kernel
theorem dL_law_1115 : decode cL_law 1115 = .ok (.aload_n 0, 1) := by decide +kernel
theorem dL_law_1116 : decode cL_law 1116 = .ok (.iload_n 3, 1) := by decide +kernel
theorem dL_law_1117 : decode cL_law 1117 = .ok (.iconst 2, 1) := by decide +kernel
theorem dL_law_1118 : decode cL_law 1118 = .ok (.iadd, 1) := by decide +kernel
theorem dL_law_1119 : decode cL_law 1119 = .ok (.iaload, 1) := by decide +kernel
theorem dL_law_1120 : decode cL_law 1120 = .ok (.aload_n 0, 1) := by decide +kernel
theorem dL_law_1121 : decode cL_law 1121 = .ok (.iload_n 3, 1) := by decide +kernel
theorem dL_law_1122 : decode cL_law 1122 = .ok (.iconst 3, 1) := by decide +kernel
theorem dL_law_1123 : decode cL_law 1123 = .ok (.iadd, 1) := by decide +kernel
theorem dL_law_1124 : decode cL_law 1124 = .ok (.iaload, 1) := by decide +kernel
theorem dL_law_1125 : decode cL_law 1125 = .ok (.invokevirtual 130, 3) := by decide +kernel
theorem dL_law_1128 : decode cL_law 1128 = .ok (.aload_n 2, 1) := by decide +kernel
theorem dL_law_1129 : decode cL_law 1129 = .ok (.aload_n 0, 1) := by decide +kernel
theorem dL_law_1130 : decode cL_law 1130 = .ok (.iload_n 3, 1) := by decide +kernel
theorem dL_law_1131 : decode cL_law 1131 = .ok (.iconst 1, 1) := by decide +kernel
theorem dL_law_1132 : decode cL_law 1132 = .ok (.iadd, 1) := by decide +kernel
theorem dL_law_1133 : decode cL_law 1133 = .ok (.iaload, 1) := by decide +kernel
theorem dL_law_1134 : decode cL_law 1134 = .ok (.aload_n 0, 1) := by decide +kernel
theorem dL_law_1135 : decode cL_law 1135 = .ok (.iload_n 3, 1) := by decide +kernel
theorem dL_law_1136 : decode cL_law 1136 = .ok (.iconst 2, 1) := by decide +kernel
theorem dL_law_1137 : decode cL_law 1137 = .ok (.iadd, 1) := by decide +kernel
theorem dL_law_1138 : decode cL_law 1138 = .ok (.iaload, 1) := by decide +kernel
theorem dL_law_1139 : decode cL_law 1139 = .ok (.aload_n 0, 1) := by decide +kernel
theorem dL_law_1140 : decode cL_law 1140 = .ok (.iload_n 3, 1) := by decide +kernel
theorem dL_law_1141 : decode cL_law 1141 = .ok (.iconst 3, 1) := by decide +kernel
theorem dL_law_1142 : decode cL_law 1142 = .ok (.iadd, 1) := by decide +kernel
theorem dL_law_1143 : decode cL_law 1143 = .ok (.iaload, 1) := by decide +kernel
theorem dL_law_1144 : decode cL_law 1144 = .ok (.invokevirtual 133, 3) := by decide +kernel
theorem dL_law_1147 : decode cL_law 1147 = .ok (.if_icmp .eq 110, 3) := by decide +kernel
theorem dL_law_1150 : decode cL_law 1150 = .ok (.iconst 0, 1) := by decide +kernel
theorem dL_law_1151 : decode cL_law 1151 = .ok (.ireturn, 1) := by decide +kernel
theorem dL_law_1152 : decode cL_law 1152 = .ok (.aload_n 1, 1) := by decide +kernel
theorem dL_law_1153 : decode cL_law 1153 = .ok (.aload_n 0, 1) := by decide +kernel
theorem dL_law_1154 : decode cL_law 1154 = .ok (.iload_n 3, 1) := by decide +kernel
theorem dL_law_1155 : decode cL_law 1155 = .ok (.iconst 1, 1) := by decide +kernel
theorem dL_law_1156 : decode cL_law 1156 = .ok (.iadd, 1) := by decide +kernel
theorem dL_law_1157 : decode cL_law 1157 = .ok (.iaload, 1) := by decide +kernel
theorem dL_law_1158 : decode cL_law 1158 = .ok (.invokevirtual 134, 3) := by decide +kernel
theorem dL_law_1161 : decode cL_law 1161 = .ok (.aload_n 2, 1) := by decide +kernel
theorem dL_law_1162 : decode cL_law 1162 = .ok (.aload_n 0, 1) := by decide +kernel
theorem dL_law_1163 : decode cL_law 1163 = .ok (.iload_n 3, 1) := by decide +kernel
theorem dL_law_1164 : decode cL_law 1164 = .ok (.iconst 1, 1) := by decide +kernel
theorem dL_law_1165 : decode cL_law 1165 = .ok (.iadd, 1) := by decide +kernel
theorem dL_law_1166 : decode cL_law 1166 = .ok (.iaload, 1) := by decide +kernel
theorem dL_law_1167 : decode cL_law 1167 = .ok (.invokevirtual 137, 3) := by decide +kernel
theorem dL_law_1170 : decode cL_law 1170 = .ok (.if_icmp .eq 87, 3) := by decide +kernel
theorem dL_law_1173 : decode cL_law 1173 = .ok (.iconst 0, 1) := by decide +kernel
theorem dL_law_1174 : decode cL_law 1174 = .ok (.ireturn, 1) := by decide +kernel
theorem dL_law_1175 : decode cL_law 1175 = .ok (.aload_n 1, 1) := by decide +kernel
theorem dL_law_1176 : decode cL_law 1176 = .ok (.aload_n 0, 1) := by decide +kernel
theorem dL_law_1177 : decode cL_law 1177 = .ok (.iload_n 3, 1) := by decide +kernel
theorem dL_law_1178 : decode cL_law 1178 = .ok (.iconst 1, 1) := by decide +kernel
theorem dL_law_1179 : decode cL_law 1179 = .ok (.iadd, 1) := by decide +kernel
theorem dL_law_1180 : decode cL_law 1180 = .ok (.iaload, 1) := by decide +kernel
theorem dL_law_1181 : decode cL_law 1181 = .ok (.aload_n 0, 1) := by decide +kernel
theorem dL_law_1182 : decode cL_law 1182 = .ok (.iload_n 3, 1) := by decide +kernel
theorem dL_law_1183 : decode cL_law 1183 = .ok (.iconst 2, 1) := by decide +kernel
theorem dL_law_1184 : decode cL_law 1184 = .ok (.iadd, 1) := by decide +kernel
theorem dL_law_1185 : decode cL_law 1185 = .ok (.iaload, 1) := by decide +kernel
theorem dL_law_1186 : decode cL_law 1186 = .ok (.invokevirtual 138, 3) := by decide +kernel
theorem dL_law_1189 : decode cL_law 1189 = .ok (.aload_n 2, 1) := by decide +kernel
theorem dL_law_1190 : decode cL_law 1190 = .ok (.aload_n 0, 1) := by decide +kernel
theorem dL_law_1191 : decode cL_law 1191 = .ok (.iload_n 3, 1) := by decide +kernel
theorem dL_law_1192 : decode cL_law 1192 = .ok (.iconst 1, 1) := by decide +kernel
theorem dL_law_1193 : decode cL_law 1193 = .ok (.iadd, 1) := by decide +kernel
theorem dL_law_1194 : decode cL_law 1194 = .ok (.iaload, 1) := by decide +kernel
theorem dL_law_1195 : decode cL_law 1195 = .ok (.aload_n 0, 1) := by decide +kernel
theorem dL_law_1196 : decode cL_law 1196 = .ok (.iload_n 3, 1) := by decide +kernel
theorem dL_law_1197 : decode cL_law 1197 = .ok (.iconst 2, 1) := by decide +kernel
theorem dL_law_1198 : decode cL_law 1198 = .ok (.iadd, 1) := by decide +kernel
theorem dL_law_1199 : decode cL_law 1199 = .ok (.iaload, 1) := by decide +kernel
theorem dL_law_1200 : decode cL_law 1200 = .ok (.invokevirtual 141, 3) := by decide +kernel
theorem dL_law_1203 : decode cL_law 1203 = .ok (.if_icmp .eq 54, 3) := by decide +kernel
theorem dL_law_1206 : decode cL_law 1206 = .ok (.iconst 0, 1) := by decide +kernel
theorem dL_law_1207 : decode cL_law 1207 = .ok (.ireturn, 1) := by decide +kernel
theorem dL_law_1208 : decode cL_law 1208 = .ok (.aload_n 1, 1) := by decide +kernel
theorem dL_law_1209 : decode cL_law 1209 = .ok (.invokevirtual 142, 3) := by decide +kernel
theorem dL_law_1212 : decode cL_law 1212 = .ok (.aload_n 2, 1) := by decide +kernel
theorem dL_law_1213 : decode cL_law 1213 = .ok (.invokevirtual 145, 3) := by decide +kernel
theorem dL_law_1216 : decode cL_law 1216 = .ok (.if_icmp .eq 41, 3) := by decide +kernel
theorem dL_law_1219 : decode cL_law 1219 = .ok (.iconst 0, 1) := by decide +kernel
theorem dL_law_1220 : decode cL_law 1220 = .ok (.ireturn, 1) := by decide +kernel
theorem dL_law_1221 : decode cL_law 1221 = .ok (.aload_n 1, 1) := by decide +kernel
theorem dL_law_1222 : decode cL_law 1222 = .ok (.invokevirtual 146, 3) := by decide +kernel
theorem dL_law_1225 : decode cL_law 1225 = .ok (.aload_n 2, 1) := by decide +kernel
theorem dL_law_1226 : decode cL_law 1226 = .ok (.invokevirtual 149, 3) := by decide +kernel
theorem dL_law_1229 : decode cL_law 1229 = .ok (.if_icmp .eq 28, 3) := by decide +kernel
theorem dL_law_1232 : decode cL_law 1232 = .ok (.iconst 0, 1) := by decide +kernel
theorem dL_law_1233 : decode cL_law 1233 = .ok (.ireturn, 1) := by decide +kernel
theorem dL_law_1234 : decode cL_law 1234 = .ok (.aload_n 1, 1) := by decide +kernel
theorem dL_law_1235 : decode cL_law 1235 = .ok (.aload_n 0, 1) := by decide +kernel
theorem dL_law_1236 : decode cL_law 1236 = .ok (.iload_n 3, 1) := by decide +kernel
theorem dL_law_1237 : decode cL_law 1237 = .ok (.iconst 1, 1) := by decide +kernel
theorem dL_law_1238 : decode cL_law 1238 = .ok (.iadd, 1) := by decide +kernel
theorem dL_law_1239 : decode cL_law 1239 = .ok (.iaload, 1) := by decide +kernel
theorem dL_law_1240 : decode cL_law 1240 = .ok (.invokevirtual 150, 3) := by decide +kernel
theorem dL_law_1243 : decode cL_law 1243 = .ok (.aload_n 2, 1) := by decide +kernel
theorem dL_law_1244 : decode cL_law 1244 = .ok (.aload_n 0, 1) := by decide +kernel
theorem dL_law_1245 : decode cL_law 1245 = .ok (.iload_n 3, 1) := by decide +kernel
theorem dL_law_1246 : decode cL_law 1246 = .ok (.iconst 1, 1) := by decide +kernel
theorem dL_law_1247 : decode cL_law 1247 = .ok (.iadd, 1) := by decide +kernel
theorem dL_law_1248 : decode cL_law 1248 = .ok (.iaload, 1) := by decide +kernel
theorem dL_law_1249 : decode cL_law 1249 = .ok (.invokevirtual 153, 3) := by decide +kernel
theorem dL_law_1252 : decode cL_law 1252 = .ok (.if_icmp .eq 5, 3) := by decide +kernel
theorem dL_law_1255 : decode cL_law 1255 = .ok (.iconst 0, 1) := by decide +kernel
theorem dL_law_1256 : decode cL_law 1256 = .ok (.ireturn, 1) := by decide +kernel
theorem dL_law_1257 : decode cL_law 1257 = .ok (.iinc 3 8, 3) := by decide +kernel
theorem dL_law_1260 : decode cL_law 1260 = .ok (.goto (-1242), 3) := by decide +kernel
theorem dL_law_1263 : decode cL_law 1263 = .ok (.iconst 1, 1) := by decide +kernel
theorem dL_law_1264 : decode cL_law 1264 = .ok (.ireturn, 1) := by decide +kernel
