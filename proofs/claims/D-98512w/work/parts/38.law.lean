/-! printed by emit.py: the functions that the methods compute, and their contracts -/
set_option maxRecDepth 100000
abbrev M_L_law : MM := (x, cL_law, ret, 8192, 100000, 7, [])
noncomputable def F_L_law_b2374 : KK (L_S ⊕ OO) :=
  op_iinc 4 9 <| op_back
theorem bs_L_law_b2374 : B_S M_L_law 2374 (F_L_law_b2374) (z_L z_O) (k_L 23 k_O) := by
  unfold F_L_law_b2374
  refine BS_iinc dL_law_2374 (by decide) (Nat.le_of_ble_eq_true rfl) ?_
  refine BS_goto (tgt := 23) dL_law_2377 (by decide) ?_
  exact BS_back
noncomputable def F_L_law_b288 : KK (L_S ⊕ OO) :=
  op_push (.int 4) <| op_i2 (fun x y => x + y) <| op_iald 1 <| op_ald 0 <| op_ild 4 <| op_push (.int 5) <| op_i2 (fun x y => x + y) <| op_iald 1 <| op_call 6 (f_kd 25 F_X8_feed) kx_no <| op_ceq (op_iinc 4 9 <| op_back) (op_exit <| op_push (.int 0) <| op_iret .boolean)
theorem bs_L_law_b288 : B_S M_L_law 288 (F_L_law_b288) (z_L z_O) (k_L 23 k_O) := by
  unfold F_L_law_b288
  refine BS_iconst dL_law_288 (by decide) ?_
  refine BS_iadd dL_law_289 ?_
  refine BS_iaload dL_law_290 ?_
  refine BS_aload_n dL_law_291 rfl ?_
  refine BS_iload dL_law_292 ?_
  refine BS_iconst dL_law_294 (by decide) ?_
  refine BS_iadd dL_law_295 ?_
  refine BS_iaload dL_law_296 ?_
  refine BS_call (run_V dL_law_297 con_X8_feed (ci := 15) rfl rfl q1741 q1742 q1743 q146 q1744 pd_X8_feed ⟨Nat.le_of_ble_eq_true rfl, Nat.le_of_ble_eq_true rfl⟩) BV_no ?_
  refine BS_icmp_eq (tgt := 2374) dL_law_300 (by decide) ?_ ?_
  · refine BS_iinc dL_law_2374 (by decide) (Nat.le_of_ble_eq_true rfl) ?_
    refine BS_goto (tgt := 23) dL_law_2377 (by decide) ?_
    exact BS_back
  · refine BS_exit ?_
    refine BS_iconst dL_law_303 (by decide) ?_
    exact BS_ireturn dL_law_304 rfl
noncomputable def F_L_law_b232 : KK (L_S ⊕ OO) :=
  op_ald 1 <| op_ald 0 <| op_ild 4 <| op_push (.int 1) <| op_i2 (fun x y => x + y) <| op_iald 1 <| op_ald 0 <| op_ild 4 <| op_push (.int 2) <| op_i2 (fun x y => x + y) <| op_iald 1 <| op_ald 0 <| op_ild 4 <| op_push (.int 3) <| op_i2 (fun x y => x + y) <| op_iald 1 <| op_ald 0 <| op_ild 4 <| op_push (.int 4) <| op_i2 (fun x y => x + y) <| op_iald 1 <| op_ald 0 <| op_ild 4 <| op_push (.int 5) <| op_i2 (fun x y => x + y) <| op_iald 1 <| op_call 6 (f_kd 10 F_X1_feed) kx_no <| op_ald 2 <| op_ald 0 <| op_ild 4 <| op_push (.int 1) <| op_i2 (fun x y => x + y) <| op_iald 1 <| op_ald 0 <| op_ild 4 <| op_push (.int 2) <| op_i2 (fun x y => x + y) <| op_iald 1 <| op_ald 0 <| op_ild 4 <| op_push (.int 3) <| op_i2 (fun x y => x + y) <| op_iald 1 <| op_ald 0 <| op_ild 4 <| F_L_law_b288
theorem bs_L_law_b232 : B_S M_L_law 232 (F_L_law_b232) (z_L z_O) (k_L 23 k_O) := by
  unfold F_L_law_b232
  refine BS_aload_n dL_law_232 rfl ?_
  refine BS_aload_n dL_law_233 rfl ?_
  refine BS_iload dL_law_234 ?_
  refine BS_iconst dL_law_236 (by decide) ?_
  refine BS_iadd dL_law_237 ?_
  refine BS_iaload dL_law_238 ?_
  refine BS_aload_n dL_law_239 rfl ?_
  refine BS_iload dL_law_240 ?_
  refine BS_iconst dL_law_242 (by decide) ?_
  refine BS_iadd dL_law_243 ?_
  refine BS_iaload dL_law_244 ?_
  refine BS_aload_n dL_law_245 rfl ?_
  refine BS_iload dL_law_246 ?_
  refine BS_iconst dL_law_248 (by decide) ?_
  refine BS_iadd dL_law_249 ?_
  refine BS_iaload dL_law_250 ?_
  refine BS_aload_n dL_law_251 rfl ?_
  refine BS_iload dL_law_252 ?_
  refine BS_iconst dL_law_254 (by decide) ?_
  refine BS_iadd dL_law_255 ?_
  refine BS_iaload dL_law_256 ?_
  refine BS_aload_n dL_law_257 rfl ?_
  refine BS_iload dL_law_258 ?_
  refine BS_iconst dL_law_260 (by decide) ?_
  refine BS_iadd dL_law_261 ?_
  refine BS_iaload dL_law_262 ?_
  refine BS_call (run_V dL_law_263 con_X1_feed (ci := 0) rfl rfl q482 q483 q484 q136 q485 pd_X1_feed ⟨Nat.le_of_ble_eq_true rfl, Nat.le_of_ble_eq_true rfl⟩) BV_no ?_
  refine BS_aload_n dL_law_266 rfl ?_
  refine BS_aload_n dL_law_267 rfl ?_
  refine BS_iload dL_law_268 ?_
  refine BS_iconst dL_law_270 (by decide) ?_
  refine BS_iadd dL_law_271 ?_
  refine BS_iaload dL_law_272 ?_
  refine BS_aload_n dL_law_273 rfl ?_
  refine BS_iload dL_law_274 ?_
  refine BS_iconst dL_law_276 (by decide) ?_
  refine BS_iadd dL_law_277 ?_
  refine BS_iaload dL_law_278 ?_
  refine BS_aload_n dL_law_279 rfl ?_
  refine BS_iload dL_law_280 ?_
  refine BS_iconst dL_law_282 (by decide) ?_
  refine BS_iadd dL_law_283 ?_
  refine BS_iaload dL_law_284 ?_
  refine BS_aload_n dL_law_285 rfl ?_
  refine BS_iload dL_law_286 ?_
  exact bs_L_law_b288
noncomputable def F_L_law_b305 : KK (L_S ⊕ OO) :=
  op_ald 1 <| op_ald 0 <| op_ild 4 <| op_push (.int 1) <| op_i2 (fun x y => x + y) <| op_iald 1 <| op_call 2 (f_kd 10 F_X1_kitchen) kx_no <| op_ald 2 <| op_ald 0 <| op_ild 4 <| op_push (.int 1) <| op_i2 (fun x y => x + y) <| op_iald 1 <| op_call 2 (f_kd 25 F_X8_kitchen) kx_no <| op_ceq (op_iinc 4 9 <| op_back) (op_exit <| op_push (.int 0) <| op_iret .boolean)
theorem bs_L_law_b305 : B_S M_L_law 305 (F_L_law_b305) (z_L z_O) (k_L 23 k_O) := by
  unfold F_L_law_b305
  refine BS_aload_n dL_law_305 rfl ?_
  refine BS_aload_n dL_law_306 rfl ?_
  refine BS_iload dL_law_307 ?_
  refine BS_iconst dL_law_309 (by decide) ?_
  refine BS_iadd dL_law_310 ?_
  refine BS_iaload dL_law_311 ?_
  refine BS_call (run_VW dL_law_312 con_X1_kitchen (ci := 0) rfl rfl q490 q491 q492 q136 q493 pd_X1_kitchen ⟨Nat.le_of_ble_eq_true rfl, Nat.le_of_ble_eq_true rfl⟩) BV_no ?_
  refine BS_aload_n dL_law_315 rfl ?_
  refine BS_aload_n dL_law_316 rfl ?_
  refine BS_iload dL_law_317 ?_
  refine BS_iconst dL_law_319 (by decide) ?_
  refine BS_iadd dL_law_320 ?_
  refine BS_iaload dL_law_321 ?_
  refine BS_call (run_V dL_law_322 con_X8_kitchen (ci := 15) rfl rfl q1745 q1746 q1747 q146 q1748 pd_X8_kitchen ⟨Nat.le_of_ble_eq_true rfl, Nat.le_of_ble_eq_true rfl⟩) BV_no ?_
  refine BS_icmp_eq (tgt := 2374) dL_law_325 (by decide) ?_ ?_
  · refine BS_iinc dL_law_2374 (by decide) (Nat.le_of_ble_eq_true rfl) ?_
    refine BS_goto (tgt := 23) dL_law_2377 (by decide) ?_
    exact BS_back
  · refine BS_exit ?_
    refine BS_iconst dL_law_328 (by decide) ?_
    exact BS_ireturn dL_law_329 rfl
noncomputable def F_L_law_b330 : KK (L_S ⊕ OO) :=
  op_ald 1 <| op_call 1 (f_kd 10 F_X1_fault) kx_no <| op_ald 2 <| op_call 1 (f_kd 25 F_X8_fault) kx_no <| op_ceq (op_iinc 4 9 <| op_back) (op_exit <| op_push (.int 0) <| op_iret .boolean)
theorem bs_L_law_b330 : B_S M_L_law 330 (F_L_law_b330) (z_L z_O) (k_L 23 k_O) := by
  unfold F_L_law_b330
  refine BS_aload_n dL_law_330 rfl ?_
  refine BS_call (run_V dL_law_331 con_X1_fault (ci := 0) rfl rfl q1077 q1078 q1079 q136 q1080 pd_X1_fault ⟨Nat.le_of_ble_eq_true rfl, Nat.le_of_ble_eq_true rfl⟩) BV_no ?_
  refine BS_aload_n dL_law_334 rfl ?_
  refine BS_call (run_V dL_law_335 con_X8_fault (ci := 15) rfl rfl q2067 q2068 q2069 q146 q2070 pd_X8_fault ⟨Nat.le_of_ble_eq_true rfl, Nat.le_of_ble_eq_true rfl⟩) BV_no ?_
  refine BS_icmp_eq (tgt := 2374) dL_law_338 (by decide) ?_ ?_
  · refine BS_iinc dL_law_2374 (by decide) (Nat.le_of_ble_eq_true rfl) ?_
    refine BS_goto (tgt := 23) dL_law_2377 (by decide) ?_
    exact BS_back
  · refine BS_exit ?_
    refine BS_iconst dL_law_341 (by decide) ?_
    exact BS_ireturn dL_law_342 rfl
noncomputable def F_L_law_b343 : KK (L_S ⊕ OO) :=
  op_ald 1 <| op_call 1 (f_kd 10 F_X1_where) kx_no <| op_ald 2 <| op_call 1 (f_kd 25 F_X8_where) kx_no <| op_ceq (op_iinc 4 9 <| op_back) (op_exit <| op_push (.int 0) <| op_iret .boolean)
theorem bs_L_law_b343 : B_S M_L_law 343 (F_L_law_b343) (z_L z_O) (k_L 23 k_O) := by
  unfold F_L_law_b343
  refine BS_aload_n dL_law_343 rfl ?_
  refine BS_call (run_V dL_law_344 con_X1_where (ci := 0) rfl rfl q1081 q1082 q1083 q136 q1084 pd_X1_where ⟨Nat.le_of_ble_eq_true rfl, Nat.le_of_ble_eq_true rfl⟩) BV_no ?_
  refine BS_aload_n dL_law_347 rfl ?_
  refine BS_call (run_V dL_law_348 con_X8_where (ci := 15) rfl rfl q2071 q2072 q2073 q146 q2074 pd_X8_where ⟨Nat.le_of_ble_eq_true rfl, Nat.le_of_ble_eq_true rfl⟩) BV_no ?_
  refine BS_icmp_eq (tgt := 2374) dL_law_351 (by decide) ?_ ?_
  · refine BS_iinc dL_law_2374 (by decide) (Nat.le_of_ble_eq_true rfl) ?_
    refine BS_goto (tgt := 23) dL_law_2377 (by decide) ?_
    exact BS_back
  · refine BS_exit ?_
    refine BS_iconst dL_law_354 (by decide) ?_
    exact BS_ireturn dL_law_355 rfl
noncomputable def F_L_law_b356 : KK (L_S ⊕ OO) :=
  op_ald 1 <| op_ald 0 <| op_ild 4 <| op_push (.int 1) <| op_i2 (fun x y => x + y) <| op_iald 1 <| op_ald 0 <| op_ild 4 <| op_push (.int 2) <| op_i2 (fun x y => x + y) <| op_iald 1 <| op_call 3 (f_kd 10 F_X1_bone) kx_no <| op_ald 2 <| op_ald 0 <| op_ild 4 <| op_push (.int 1) <| op_i2 (fun x y => x + y) <| op_iald 1 <| op_ald 0 <| op_ild 4 <| op_push (.int 2) <| op_i2 (fun x y => x + y) <| op_iald 1 <| op_call 3 (f_kd 25 F_X8_bone) kx_no <| op_ceq (op_iinc 4 9 <| op_back) (op_exit <| op_push (.int 0) <| op_iret .boolean)
theorem bs_L_law_b356 : B_S M_L_law 356 (F_L_law_b356) (z_L z_O) (k_L 23 k_O) := by
  unfold F_L_law_b356
  refine BS_aload_n dL_law_356 rfl ?_
  refine BS_aload_n dL_law_357 rfl ?_
  refine BS_iload dL_law_358 ?_
  refine BS_iconst dL_law_360 (by decide) ?_
  refine BS_iadd dL_law_361 ?_
  refine BS_iaload dL_law_362 ?_
  refine BS_aload_n dL_law_363 rfl ?_
  refine BS_iload dL_law_364 ?_
  refine BS_iconst dL_law_366 (by decide) ?_
  refine BS_iadd dL_law_367 ?_
  refine BS_iaload dL_law_368 ?_
  refine BS_call (run_V dL_law_369 con_X1_bone (ci := 0) rfl rfl q1085 q1086 q1087 q136 q1088 pd_X1_bone ⟨Nat.le_of_ble_eq_true rfl, Nat.le_of_ble_eq_true rfl⟩) BV_no ?_
  refine BS_aload_n dL_law_372 rfl ?_
  refine BS_aload_n dL_law_373 rfl ?_
  refine BS_iload dL_law_374 ?_
  refine BS_iconst dL_law_376 (by decide) ?_
  refine BS_iadd dL_law_377 ?_
  refine BS_iaload dL_law_378 ?_
  refine BS_aload_n dL_law_379 rfl ?_
  refine BS_iload dL_law_380 ?_
  refine BS_iconst dL_law_382 (by decide) ?_
  refine BS_iadd dL_law_383 ?_
  refine BS_iaload dL_law_384 ?_
  refine BS_call (run_V dL_law_385 con_X8_bone (ci := 15) rfl rfl q2075 q2076 q2077 q146 q2078 pd_X8_bone ⟨Nat.le_of_ble_eq_true rfl, Nat.le_of_ble_eq_true rfl⟩) BV_no ?_
  refine BS_icmp_eq (tgt := 2374) dL_law_388 (by decide) ?_ ?_
  · refine BS_iinc dL_law_2374 (by decide) (Nat.le_of_ble_eq_true rfl) ?_
    refine BS_goto (tgt := 23) dL_law_2377 (by decide) ?_
    exact BS_back
  · refine BS_exit ?_
    refine BS_iconst dL_law_391 (by decide) ?_
    exact BS_ireturn dL_law_392 rfl
noncomputable def F_L_law_b393 : KK (L_S ⊕ OO) :=
  op_ald 1 <| op_ald 0 <| op_ild 4 <| op_push (.int 1) <| op_i2 (fun x y => x + y) <| op_iald 1 <| op_ald 0 <| op_ild 4 <| op_push (.int 2) <| op_i2 (fun x y => x + y) <| op_iald 1 <| op_ald 0 <| op_ild 4 <| op_push (.int 3) <| op_i2 (fun x y => x + y) <| op_iald 1 <| op_call 4 (f_kd 10 F_X1_thick) kx_no <| op_ald 2 <| op_ald 0 <| op_ild 4 <| op_push (.int 1) <| op_i2 (fun x y => x + y) <| op_iald 1 <| op_ald 0 <| op_ild 4 <| op_push (.int 2) <| op_i2 (fun x y => x + y) <| op_iald 1 <| op_ald 0 <| op_ild 4 <| op_push (.int 3) <| op_i2 (fun x y => x + y) <| op_iald 1 <| op_call 4 (f_kd 25 F_X8_thick) kx_no <| op_ceq (op_iinc 4 9 <| op_back) (op_exit <| op_push (.int 0) <| op_iret .boolean)
theorem bs_L_law_b393 : B_S M_L_law 393 (F_L_law_b393) (z_L z_O) (k_L 23 k_O) := by
  unfold F_L_law_b393
  refine BS_aload_n dL_law_393 rfl ?_
  refine BS_aload_n dL_law_394 rfl ?_
  refine BS_iload dL_law_395 ?_
  refine BS_iconst dL_law_397 (by decide) ?_
  refine BS_iadd dL_law_398 ?_
  refine BS_iaload dL_law_399 ?_
  refine BS_aload_n dL_law_400 rfl ?_
  refine BS_iload dL_law_401 ?_
  refine BS_iconst dL_law_403 (by decide) ?_
  refine BS_iadd dL_law_404 ?_
  refine BS_iaload dL_law_405 ?_
  refine BS_aload_n dL_law_406 rfl ?_
  refine BS_iload dL_law_407 ?_
  refine BS_iconst dL_law_409 (by decide) ?_
  refine BS_iadd dL_law_410 ?_
  refine BS_iaload dL_law_411 ?_
  refine BS_call (run_V dL_law_412 con_X1_thick (ci := 0) rfl rfl q1107 q1108 q1109 q136 q1110 pd_X1_thick ⟨Nat.le_of_ble_eq_true rfl, Nat.le_of_ble_eq_true rfl⟩) BV_no ?_
  refine BS_aload_n dL_law_415 rfl ?_
  refine BS_aload_n dL_law_416 rfl ?_
  refine BS_iload dL_law_417 ?_
  refine BS_iconst dL_law_419 (by decide) ?_
  refine BS_iadd dL_law_420 ?_
  refine BS_iaload dL_law_421 ?_
  refine BS_aload_n dL_law_422 rfl ?_
  refine BS_iload dL_law_423 ?_
  refine BS_iconst dL_law_425 (by decide) ?_
  refine BS_iadd dL_law_426 ?_
  refine BS_iaload dL_law_427 ?_
  refine BS_aload_n dL_law_428 rfl ?_
  refine BS_iload dL_law_429 ?_
  refine BS_iconst dL_law_431 (by decide) ?_
  refine BS_iadd dL_law_432 ?_
  refine BS_iaload dL_law_433 ?_
  refine BS_call (run_V dL_law_434 con_X8_thick (ci := 15) rfl rfl q2087 q2088 q2089 q146 q2090 pd_X8_thick ⟨Nat.le_of_ble_eq_true rfl, Nat.le_of_ble_eq_true rfl⟩) BV_no ?_
  refine BS_icmp_eq (tgt := 2374) dL_law_437 (by decide) ?_ ?_
  · refine BS_iinc dL_law_2374 (by decide) (Nat.le_of_ble_eq_true rfl) ?_
    refine BS_goto (tgt := 23) dL_law_2377 (by decide) ?_
    exact BS_back
  · refine BS_exit ?_
    refine BS_iconst dL_law_440 (by decide) ?_
    exact BS_ireturn dL_law_441 rfl
noncomputable def F_L_law_b442 : KK (L_S ⊕ OO) :=
  op_ald 1 <| op_ald 0 <| op_ild 4 <| op_push (.int 1) <| op_i2 (fun x y => x + y) <| op_iald 1 <| op_ald 0 <| op_ild 4 <| op_push (.int 2) <| op_i2 (fun x y => x + y) <| op_iald 1 <| op_call 3 (f_kd 10 F_X1_person) kx_no <| op_ald 2 <| op_ald 0 <| op_ild 4 <| op_push (.int 1) <| op_i2 (fun x y => x + y) <| op_iald 1 <| op_ald 0 <| op_ild 4 <| op_push (.int 2) <| op_i2 (fun x y => x + y) <| op_iald 1 <| op_call 3 (f_kd 25 F_X8_person) kx_no <| op_ceq (op_iinc 4 9 <| op_back) (op_exit <| op_push (.int 0) <| op_iret .boolean)
theorem bs_L_law_b442 : B_S M_L_law 442 (F_L_law_b442) (z_L z_O) (k_L 23 k_O) := by
  unfold F_L_law_b442
  refine BS_aload_n dL_law_442 rfl ?_
  refine BS_aload_n dL_law_443 rfl ?_
  refine BS_iload dL_law_444 ?_
  refine BS_iconst dL_law_446 (by decide) ?_
  refine BS_iadd dL_law_447 ?_
  refine BS_iaload dL_law_448 ?_
  refine BS_aload_n dL_law_449 rfl ?_
  refine BS_iload dL_law_450 ?_
  refine BS_iconst dL_law_452 (by decide) ?_
  refine BS_iadd dL_law_453 ?_
  refine BS_iaload dL_law_454 ?_
  refine BS_call (run_V dL_law_455 con_X1_person (ci := 0) rfl rfl q1122 q1123 q1124 q136 q1125 pd_X1_person ⟨Nat.le_of_ble_eq_true rfl, Nat.le_of_ble_eq_true rfl⟩) BV_no ?_
  refine BS_aload_n dL_law_458 rfl ?_
  refine BS_aload_n dL_law_459 rfl ?_
  refine BS_iload dL_law_460 ?_
  refine BS_iconst dL_law_462 (by decide) ?_
  refine BS_iadd dL_law_463 ?_
  refine BS_iaload dL_law_464 ?_
  refine BS_aload_n dL_law_465 rfl ?_
  refine BS_iload dL_law_466 ?_
  refine BS_iconst dL_law_468 (by decide) ?_
  refine BS_iadd dL_law_469 ?_
  refine BS_iaload dL_law_470 ?_
  refine BS_call (run_V dL_law_471 con_X8_person (ci := 15) rfl rfl q2099 q2100 q2101 q146 q2102 pd_X8_person ⟨Nat.le_of_ble_eq_true rfl, Nat.le_of_ble_eq_true rfl⟩) BV_no ?_
  refine BS_icmp_eq (tgt := 2374) dL_law_474 (by decide) ?_ ?_
  · refine BS_iinc dL_law_2374 (by decide) (Nat.le_of_ble_eq_true rfl) ?_
    refine BS_goto (tgt := 23) dL_law_2377 (by decide) ?_
    exact BS_back
  · refine BS_exit ?_
    refine BS_iconst dL_law_477 (by decide) ?_
    exact BS_ireturn dL_law_478 rfl
noncomputable def F_L_law_b479 : KK (L_S ⊕ OO) :=
  op_ald 1 <| op_ald 0 <| op_ild 4 <| op_push (.int 1) <| op_i2 (fun x y => x + y) <| op_iald 1 <| op_ald 0 <| op_ild 4 <| op_push (.int 2) <| op_i2 (fun x y => x + y) <| op_iald 1 <| op_ald 0 <| op_ild 4 <| op_push (.int 3) <| op_i2 (fun x y => x + y) <| op_iald 1 <| op_ald 0 <| op_ild 4 <| op_push (.int 4) <| op_i2 (fun x y => x + y) <| op_iald 1 <| op_call 5 (f_kd 10 F_X1_strength) kx_no <| op_ald 2 <| op_ald 0 <| op_ild 4 <| op_push (.int 1) <| op_i2 (fun x y => x + y) <| op_iald 1 <| op_ald 0 <| op_ild 4 <| op_push (.int 2) <| op_i2 (fun x y => x + y) <| op_iald 1 <| op_ald 0 <| op_ild 4 <| op_push (.int 3) <| op_i2 (fun x y => x + y) <| op_iald 1 <| op_ald 0 <| op_ild 4 <| op_push (.int 4) <| op_i2 (fun x y => x + y) <| op_iald 1 <| op_call 5 (f_kd 25 F_X8_strength) kx_no <| op_ceq (op_iinc 4 9 <| op_back) (op_exit <| op_push (.int 0) <| op_iret .boolean)
theorem bs_L_law_b479 : B_S M_L_law 479 (F_L_law_b479) (z_L z_O) (k_L 23 k_O) := by
  unfold F_L_law_b479
  refine BS_aload_n dL_law_479 rfl ?_
  refine BS_aload_n dL_law_480 rfl ?_
  refine BS_iload dL_law_481 ?_
  refine BS_iconst dL_law_483 (by decide) ?_
  refine BS_iadd dL_law_484 ?_
  refine BS_iaload dL_law_485 ?_
  refine BS_aload_n dL_law_486 rfl ?_
  refine BS_iload dL_law_487 ?_
  refine BS_iconst dL_law_489 (by decide) ?_
  refine BS_iadd dL_law_490 ?_
  refine BS_iaload dL_law_491 ?_
  refine BS_aload_n dL_law_492 rfl ?_
  refine BS_iload dL_law_493 ?_
  refine BS_iconst dL_law_495 (by decide) ?_
  refine BS_iadd dL_law_496 ?_
  refine BS_iaload dL_law_497 ?_
  refine BS_aload_n dL_law_498 rfl ?_
  refine BS_iload dL_law_499 ?_
  refine BS_iconst dL_law_501 (by decide) ?_
  refine BS_iadd dL_law_502 ?_
  refine BS_iaload dL_law_503 ?_
  refine BS_call (run_V dL_law_504 con_X1_strength (ci := 0) rfl rfl q1145 q1146 q1147 q136 q1148 pd_X1_strength ⟨Nat.le_of_ble_eq_true rfl, Nat.le_of_ble_eq_true rfl⟩) BV_no ?_
  refine BS_aload_n dL_law_507 rfl ?_
  refine BS_aload_n dL_law_508 rfl ?_
  refine BS_iload dL_law_509 ?_
  refine BS_iconst dL_law_511 (by decide) ?_
  refine BS_iadd dL_law_512 ?_
  refine BS_iaload dL_law_513 ?_
  refine BS_aload_n dL_law_514 rfl ?_
  refine BS_iload dL_law_515 ?_
  refine BS_iconst dL_law_517 (by decide) ?_
  refine BS_iadd dL_law_518 ?_
  refine BS_iaload dL_law_519 ?_
  refine BS_aload_n dL_law_520 rfl ?_
  refine BS_iload dL_law_521 ?_
  refine BS_iconst dL_law_523 (by decide) ?_
  refine BS_iadd dL_law_524 ?_
  refine BS_iaload dL_law_525 ?_
  refine BS_aload_n dL_law_526 rfl ?_
  refine BS_iload dL_law_527 ?_
  refine BS_iconst dL_law_529 (by decide) ?_
  refine BS_iadd dL_law_530 ?_
  refine BS_iaload dL_law_531 ?_
  refine BS_call (run_V dL_law_532 con_X8_strength (ci := 15) rfl rfl q2115 q2116 q2117 q146 q2118 pd_X8_strength ⟨Nat.le_of_ble_eq_true rfl, Nat.le_of_ble_eq_true rfl⟩) BV_no ?_
  refine BS_icmp_eq (tgt := 2374) dL_law_535 (by decide) ?_ ?_
  · refine BS_iinc dL_law_2374 (by decide) (Nat.le_of_ble_eq_true rfl) ?_
    refine BS_goto (tgt := 23) dL_law_2377 (by decide) ?_
    exact BS_back
  · refine BS_exit ?_
    refine BS_iconst dL_law_538 (by decide) ?_
    exact BS_ireturn dL_law_539 rfl
noncomputable def F_L_law_b599 : KK (L_S ⊕ OO) :=
  op_push (.int 1) <| op_i2 (fun x y => x + y) <| op_iald 1 <| op_ald 0 <| op_ild 4 <| op_push (.int 2) <| op_i2 (fun x y => x + y) <| op_iald 1 <| op_ald 0 <| op_ild 4 <| op_push (.int 3) <| op_i2 (fun x y => x + y) <| op_iald 1 <| op_ald 0 <| op_ild 4 <| op_push (.int 4) <| op_i2 (fun x y => x + y) <| op_iald 1 <| op_ald 0 <| op_ild 4 <| op_push (.int 5) <| op_i2 (fun x y => x + y) <| op_iald 1 <| op_ald 0 <| op_ild 4 <| op_push (.int 6) <| op_i2 (fun x y => x + y) <| op_iald 1 <| op_ald 0 <| op_ild 4 <| op_push (.int 7) <| op_i2 (fun x y => x + y) <| op_iald 1 <| op_ald 0 <| op_ild 4 <| op_push (.int 8) <| op_i2 (fun x y => x + y) <| op_iald 1 <| op_call 9 (f_kd 25 F_X8_strain) kx_no <| op_ceq (op_iinc 4 9 <| op_back) (op_exit <| op_push (.int 0) <| op_iret .boolean)
theorem bs_L_law_b599 : B_S M_L_law 599 (F_L_law_b599) (z_L z_O) (k_L 23 k_O) := by
  unfold F_L_law_b599
  refine BS_iconst dL_law_599 (by decide) ?_
  refine BS_iadd dL_law_600 ?_
  refine BS_iaload dL_law_601 ?_
  refine BS_aload_n dL_law_602 rfl ?_
  refine BS_iload dL_law_603 ?_
  refine BS_iconst dL_law_605 (by decide) ?_
  refine BS_iadd dL_law_606 ?_
  refine BS_iaload dL_law_607 ?_
  refine BS_aload_n dL_law_608 rfl ?_
  refine BS_iload dL_law_609 ?_
  refine BS_iconst dL_law_611 (by decide) ?_
  refine BS_iadd dL_law_612 ?_
  refine BS_iaload dL_law_613 ?_
  refine BS_aload_n dL_law_614 rfl ?_
  refine BS_iload dL_law_615 ?_
  refine BS_iconst dL_law_617 (by decide) ?_
  refine BS_iadd dL_law_618 ?_
  refine BS_iaload dL_law_619 ?_
  refine BS_aload_n dL_law_620 rfl ?_
  refine BS_iload dL_law_621 ?_
  refine BS_iconst dL_law_623 (by decide) ?_
  refine BS_iadd dL_law_624 ?_
  refine BS_iaload dL_law_625 ?_
  refine BS_aload_n dL_law_626 rfl ?_
  refine BS_iload dL_law_627 ?_
  refine BS_bipush dL_law_629 (by decide) ?_
  refine BS_iadd dL_law_631 ?_
  refine BS_iaload dL_law_632 ?_
  refine BS_aload_n dL_law_633 rfl ?_
  refine BS_iload dL_law_634 ?_
  refine BS_bipush dL_law_636 (by decide) ?_
  refine BS_iadd dL_law_638 ?_
  refine BS_iaload dL_law_639 ?_
  refine BS_aload_n dL_law_640 rfl ?_
  refine BS_iload dL_law_641 ?_
  refine BS_bipush dL_law_643 (by decide) ?_
  refine BS_iadd dL_law_645 ?_
  refine BS_iaload dL_law_646 ?_
  refine BS_call (run_V dL_law_647 con_X8_strain (ci := 15) rfl rfl q2131 q2132 q2133 q146 q2134 pd_X8_strain ⟨Nat.le_of_ble_eq_true rfl, Nat.le_of_ble_eq_true rfl⟩) BV_no ?_
  refine BS_icmp_eq (tgt := 2374) dL_law_650 (by decide) ?_ ?_
  · refine BS_iinc dL_law_2374 (by decide) (Nat.le_of_ble_eq_true rfl) ?_
    refine BS_goto (tgt := 23) dL_law_2377 (by decide) ?_
    exact BS_back
  · refine BS_exit ?_
    refine BS_iconst dL_law_653 (by decide) ?_
    exact BS_ireturn dL_law_654 rfl
noncomputable def F_L_law_b540 : KK (L_S ⊕ OO) :=
  op_ald 1 <| op_ald 0 <| op_ild 4 <| op_push (.int 1) <| op_i2 (fun x y => x + y) <| op_iald 1 <| op_ald 0 <| op_ild 4 <| op_push (.int 2) <| op_i2 (fun x y => x + y) <| op_iald 1 <| op_ald 0 <| op_ild 4 <| op_push (.int 3) <| op_i2 (fun x y => x + y) <| op_iald 1 <| op_ald 0 <| op_ild 4 <| op_push (.int 4) <| op_i2 (fun x y => x + y) <| op_iald 1 <| op_ald 0 <| op_ild 4 <| op_push (.int 5) <| op_i2 (fun x y => x + y) <| op_iald 1 <| op_ald 0 <| op_ild 4 <| op_push (.int 6) <| op_i2 (fun x y => x + y) <| op_iald 1 <| op_ald 0 <| op_ild 4 <| op_push (.int 7) <| op_i2 (fun x y => x + y) <| op_iald 1 <| op_ald 0 <| op_ild 4 <| op_push (.int 8) <| op_i2 (fun x y => x + y) <| op_iald 1 <| op_call 9 (f_kd 10 F_X1_strain) kx_no <| op_ald 2 <| op_ald 0 <| op_ild 4 <| F_L_law_b599
theorem bs_L_law_b540 : B_S M_L_law 540 (F_L_law_b540) (z_L z_O) (k_L 23 k_O) := by
  unfold F_L_law_b540
  refine BS_aload_n dL_law_540 rfl ?_
  refine BS_aload_n dL_law_541 rfl ?_
  refine BS_iload dL_law_542 ?_
  refine BS_iconst dL_law_544 (by decide) ?_
  refine BS_iadd dL_law_545 ?_
  refine BS_iaload dL_law_546 ?_
  refine BS_aload_n dL_law_547 rfl ?_
  refine BS_iload dL_law_548 ?_
  refine BS_iconst dL_law_550 (by decide) ?_
  refine BS_iadd dL_law_551 ?_
  refine BS_iaload dL_law_552 ?_
  refine BS_aload_n dL_law_553 rfl ?_
  refine BS_iload dL_law_554 ?_
  refine BS_iconst dL_law_556 (by decide) ?_
  refine BS_iadd dL_law_557 ?_
  refine BS_iaload dL_law_558 ?_
  refine BS_aload_n dL_law_559 rfl ?_
  refine BS_iload dL_law_560 ?_
  refine BS_iconst dL_law_562 (by decide) ?_
  refine BS_iadd dL_law_563 ?_
  refine BS_iaload dL_law_564 ?_
  refine BS_aload_n dL_law_565 rfl ?_
  refine BS_iload dL_law_566 ?_
  refine BS_iconst dL_law_568 (by decide) ?_
  refine BS_iadd dL_law_569 ?_
  refine BS_iaload dL_law_570 ?_
  refine BS_aload_n dL_law_571 rfl ?_
  refine BS_iload dL_law_572 ?_
  refine BS_bipush dL_law_574 (by decide) ?_
  refine BS_iadd dL_law_576 ?_
  refine BS_iaload dL_law_577 ?_
  refine BS_aload_n dL_law_578 rfl ?_
  refine BS_iload dL_law_579 ?_
  refine BS_bipush dL_law_581 (by decide) ?_
  refine BS_iadd dL_law_583 ?_
  refine BS_iaload dL_law_584 ?_
  refine BS_aload_n dL_law_585 rfl ?_
  refine BS_iload dL_law_586 ?_
  refine BS_bipush dL_law_588 (by decide) ?_
  refine BS_iadd dL_law_590 ?_
  refine BS_iaload dL_law_591 ?_
  refine BS_call (run_V dL_law_592 con_X1_strain (ci := 0) rfl rfl q1176 q1177 q1178 q136 q1179 pd_X1_strain ⟨Nat.le_of_ble_eq_true rfl, Nat.le_of_ble_eq_true rfl⟩) BV_no ?_
  refine BS_aload_n dL_law_595 rfl ?_
  refine BS_aload_n dL_law_596 rfl ?_
  refine BS_iload dL_law_597 ?_
  exact bs_L_law_b599
noncomputable def F_L_law_b712 : KK (L_S ⊕ OO) :=
  op_push (.int 3) <| op_i2 (fun x y => x + y) <| op_iald 1 <| op_ald 0 <| op_ild 4 <| op_push (.int 4) <| op_i2 (fun x y => x + y) <| op_iald 1 <| op_ald 0 <| op_ild 4 <| op_push (.int 5) <| op_i2 (fun x y => x + y) <| op_iald 1 <| op_ald 0 <| op_ild 4 <| op_push (.int 6) <| op_i2 (fun x y => x + y) <| op_iald 1 <| op_call 7 (f_kd 25 F_X8_pulled) kx_no <| op_ceq (op_iinc 4 9 <| op_back) (op_exit <| op_push (.int 0) <| op_iret .boolean)
theorem bs_L_law_b712 : B_S M_L_law 712 (F_L_law_b712) (z_L z_O) (k_L 23 k_O) := by
  unfold F_L_law_b712
  refine BS_iconst dL_law_712 (by decide) ?_
  refine BS_iadd dL_law_713 ?_
  refine BS_iaload dL_law_714 ?_
  refine BS_aload_n dL_law_715 rfl ?_
  refine BS_iload dL_law_716 ?_
  refine BS_iconst dL_law_718 (by decide) ?_
  refine BS_iadd dL_law_719 ?_
  refine BS_iaload dL_law_720 ?_
  refine BS_aload_n dL_law_721 rfl ?_
  refine BS_iload dL_law_722 ?_
  refine BS_iconst dL_law_724 (by decide) ?_
  refine BS_iadd dL_law_725 ?_
  refine BS_iaload dL_law_726 ?_
  refine BS_aload_n dL_law_727 rfl ?_
  refine BS_iload dL_law_728 ?_
  refine BS_bipush dL_law_730 (by decide) ?_
  refine BS_iadd dL_law_732 ?_
  refine BS_iaload dL_law_733 ?_
  refine BS_call (run_V dL_law_734 con_X8_pulled (ci := 15) rfl rfl q2147 q2148 q2149 q146 q2150 pd_X8_pulled ⟨Nat.le_of_ble_eq_true rfl, Nat.le_of_ble_eq_true rfl⟩) BV_no ?_
  refine BS_icmp_eq (tgt := 2374) dL_law_737 (by decide) ?_ ?_
  · refine BS_iinc dL_law_2374 (by decide) (Nat.le_of_ble_eq_true rfl) ?_
    refine BS_goto (tgt := 23) dL_law_2377 (by decide) ?_
    exact BS_back
  · refine BS_exit ?_
    refine BS_iconst dL_law_740 (by decide) ?_
    exact BS_ireturn dL_law_741 rfl
noncomputable def F_L_law_b655 : KK (L_S ⊕ OO) :=
  op_ald 1 <| op_ald 0 <| op_ild 4 <| op_push (.int 1) <| op_i2 (fun x y => x + y) <| op_iald 1 <| op_ald 0 <| op_ild 4 <| op_push (.int 2) <| op_i2 (fun x y => x + y) <| op_iald 1 <| op_ald 0 <| op_ild 4 <| op_push (.int 3) <| op_i2 (fun x y => x + y) <| op_iald 1 <| op_ald 0 <| op_ild 4 <| op_push (.int 4) <| op_i2 (fun x y => x + y) <| op_iald 1 <| op_ald 0 <| op_ild 4 <| op_push (.int 5) <| op_i2 (fun x y => x + y) <| op_iald 1 <| op_ald 0 <| op_ild 4 <| op_push (.int 6) <| op_i2 (fun x y => x + y) <| op_iald 1 <| op_call 7 (f_kd 10 F_X1_pulled) kx_no <| op_ald 2 <| op_ald 0 <| op_ild 4 <| op_push (.int 1) <| op_i2 (fun x y => x + y) <| op_iald 1 <| op_ald 0 <| op_ild 4 <| op_push (.int 2) <| op_i2 (fun x y => x + y) <| op_iald 1 <| op_ald 0 <| op_ild 4 <| F_L_law_b712
theorem bs_L_law_b655 : B_S M_L_law 655 (F_L_law_b655) (z_L z_O) (k_L 23 k_O) := by
  unfold F_L_law_b655
  refine BS_aload_n dL_law_655 rfl ?_
  refine BS_aload_n dL_law_656 rfl ?_
  refine BS_iload dL_law_657 ?_
  refine BS_iconst dL_law_659 (by decide) ?_
  refine BS_iadd dL_law_660 ?_
  refine BS_iaload dL_law_661 ?_
  refine BS_aload_n dL_law_662 rfl ?_
  refine BS_iload dL_law_663 ?_
  refine BS_iconst dL_law_665 (by decide) ?_
  refine BS_iadd dL_law_666 ?_
  refine BS_iaload dL_law_667 ?_
  refine BS_aload_n dL_law_668 rfl ?_
  refine BS_iload dL_law_669 ?_
  refine BS_iconst dL_law_671 (by decide) ?_
  refine BS_iadd dL_law_672 ?_
  refine BS_iaload dL_law_673 ?_
  refine BS_aload_n dL_law_674 rfl ?_
  refine BS_iload dL_law_675 ?_
  refine BS_iconst dL_law_677 (by decide) ?_
  refine BS_iadd dL_law_678 ?_
  refine BS_iaload dL_law_679 ?_
  refine BS_aload_n dL_law_680 rfl ?_
  refine BS_iload dL_law_681 ?_
  refine BS_iconst dL_law_683 (by decide) ?_
  refine BS_iadd dL_law_684 ?_
  refine BS_iaload dL_law_685 ?_
  refine BS_aload_n dL_law_686 rfl ?_
  refine BS_iload dL_law_687 ?_
  refine BS_bipush dL_law_689 (by decide) ?_
  refine BS_iadd dL_law_691 ?_
  refine BS_iaload dL_law_692 ?_
  refine BS_call (run_V dL_law_693 con_X1_pulled (ci := 0) rfl rfl q1218 q1219 q1220 q136 q1221 pd_X1_pulled ⟨Nat.le_of_ble_eq_true rfl, Nat.le_of_ble_eq_true rfl⟩) BV_no ?_
  refine BS_aload_n dL_law_696 rfl ?_
  refine BS_aload_n dL_law_697 rfl ?_
  refine BS_iload dL_law_698 ?_
  refine BS_iconst dL_law_700 (by decide) ?_
  refine BS_iadd dL_law_701 ?_
  refine BS_iaload dL_law_702 ?_
  refine BS_aload_n dL_law_703 rfl ?_
  refine BS_iload dL_law_704 ?_
  refine BS_iconst dL_law_706 (by decide) ?_
  refine BS_iadd dL_law_707 ?_
  refine BS_iaload dL_law_708 ?_
  refine BS_aload_n dL_law_709 rfl ?_
  refine BS_iload dL_law_710 ?_
  exact bs_L_law_b712
noncomputable def F_L_law_b799 : KK (L_S ⊕ OO) :=
  op_push (.int 3) <| op_i2 (fun x y => x + y) <| op_iald 1 <| op_ald 0 <| op_ild 4 <| op_push (.int 4) <| op_i2 (fun x y => x + y) <| op_iald 1 <| op_ald 0 <| op_ild 4 <| op_push (.int 5) <| op_i2 (fun x y => x + y) <| op_iald 1 <| op_ald 0 <| op_ild 4 <| op_push (.int 6) <| op_i2 (fun x y => x + y) <| op_iald 1 <| op_call 7 (f_kd 25 F_X8_breaksAt) kx_no <| op_ceq (op_iinc 4 9 <| op_back) (op_exit <| op_push (.int 0) <| op_iret .boolean)
theorem bs_L_law_b799 : B_S M_L_law 799 (F_L_law_b799) (z_L z_O) (k_L 23 k_O) := by
  unfold F_L_law_b799
  refine BS_iconst dL_law_799 (by decide) ?_
  refine BS_iadd dL_law_800 ?_
  refine BS_iaload dL_law_801 ?_
  refine BS_aload_n dL_law_802 rfl ?_
  refine BS_iload dL_law_803 ?_
  refine BS_iconst dL_law_805 (by decide) ?_
  refine BS_iadd dL_law_806 ?_
  refine BS_iaload dL_law_807 ?_
  refine BS_aload_n dL_law_808 rfl ?_
  refine BS_iload dL_law_809 ?_
  refine BS_iconst dL_law_811 (by decide) ?_
  refine BS_iadd dL_law_812 ?_
  refine BS_iaload dL_law_813 ?_
  refine BS_aload_n dL_law_814 rfl ?_
  refine BS_iload dL_law_815 ?_
  refine BS_bipush dL_law_817 (by decide) ?_
  refine BS_iadd dL_law_819 ?_
  refine BS_iaload dL_law_820 ?_
  refine BS_call (run_V dL_law_821 con_X8_breaksAt (ci := 15) rfl rfl q2164 q2165 q2166 q146 q2167 pd_X8_breaksAt ⟨Nat.le_of_ble_eq_true rfl, Nat.le_of_ble_eq_true rfl⟩) BV_no ?_
  refine BS_icmp_eq (tgt := 2374) dL_law_824 (by decide) ?_ ?_
  · refine BS_iinc dL_law_2374 (by decide) (Nat.le_of_ble_eq_true rfl) ?_
    refine BS_goto (tgt := 23) dL_law_2377 (by decide) ?_
    exact BS_back
  · refine BS_exit ?_
    refine BS_iconst dL_law_827 (by decide) ?_
    exact BS_ireturn dL_law_828 rfl
noncomputable def F_L_law_b742 : KK (L_S ⊕ OO) :=
  op_ald 1 <| op_ald 0 <| op_ild 4 <| op_push (.int 1) <| op_i2 (fun x y => x + y) <| op_iald 1 <| op_ald 0 <| op_ild 4 <| op_push (.int 2) <| op_i2 (fun x y => x + y) <| op_iald 1 <| op_ald 0 <| op_ild 4 <| op_push (.int 3) <| op_i2 (fun x y => x + y) <| op_iald 1 <| op_ald 0 <| op_ild 4 <| op_push (.int 4) <| op_i2 (fun x y => x + y) <| op_iald 1 <| op_ald 0 <| op_ild 4 <| op_push (.int 5) <| op_i2 (fun x y => x + y) <| op_iald 1 <| op_ald 0 <| op_ild 4 <| op_push (.int 6) <| op_i2 (fun x y => x + y) <| op_iald 1 <| op_call 7 (f_kd 10 F_X1_breaksAt) kx_no <| op_ald 2 <| op_ald 0 <| op_ild 4 <| op_push (.int 1) <| op_i2 (fun x y => x + y) <| op_iald 1 <| op_ald 0 <| op_ild 4 <| op_push (.int 2) <| op_i2 (fun x y => x + y) <| op_iald 1 <| op_ald 0 <| op_ild 4 <| F_L_law_b799
theorem bs_L_law_b742 : B_S M_L_law 742 (F_L_law_b742) (z_L z_O) (k_L 23 k_O) := by
  unfold F_L_law_b742
  refine BS_aload_n dL_law_742 rfl ?_
  refine BS_aload_n dL_law_743 rfl ?_
  refine BS_iload dL_law_744 ?_
  refine BS_iconst dL_law_746 (by decide) ?_
  refine BS_iadd dL_law_747 ?_
  refine BS_iaload dL_law_748 ?_
  refine BS_aload_n dL_law_749 rfl ?_
  refine BS_iload dL_law_750 ?_
  refine BS_iconst dL_law_752 (by decide) ?_
  refine BS_iadd dL_law_753 ?_
  refine BS_iaload dL_law_754 ?_
  refine BS_aload_n dL_law_755 rfl ?_
  refine BS_iload dL_law_756 ?_
  refine BS_iconst dL_law_758 (by decide) ?_
  refine BS_iadd dL_law_759 ?_
  refine BS_iaload dL_law_760 ?_
  refine BS_aload_n dL_law_761 rfl ?_
  refine BS_iload dL_law_762 ?_
  refine BS_iconst dL_law_764 (by decide) ?_
  refine BS_iadd dL_law_765 ?_
  refine BS_iaload dL_law_766 ?_
  refine BS_aload_n dL_law_767 rfl ?_
  refine BS_iload dL_law_768 ?_
  refine BS_iconst dL_law_770 (by decide) ?_
  refine BS_iadd dL_law_771 ?_
  refine BS_iaload dL_law_772 ?_
  refine BS_aload_n dL_law_773 rfl ?_
  refine BS_iload dL_law_774 ?_
  refine BS_bipush dL_law_776 (by decide) ?_
  refine BS_iadd dL_law_778 ?_
  refine BS_iaload dL_law_779 ?_
  refine BS_call (run_V dL_law_780 con_X1_breaksAt (ci := 0) rfl rfl q1240 q1241 q1242 q136 q1243 pd_X1_breaksAt ⟨Nat.le_of_ble_eq_true rfl, Nat.le_of_ble_eq_true rfl⟩) BV_no ?_
  refine BS_aload_n dL_law_783 rfl ?_
  refine BS_aload_n dL_law_784 rfl ?_
  refine BS_iload dL_law_785 ?_
  refine BS_iconst dL_law_787 (by decide) ?_
  refine BS_iadd dL_law_788 ?_
  refine BS_iaload dL_law_789 ?_
  refine BS_aload_n dL_law_790 rfl ?_
  refine BS_iload dL_law_791 ?_
  refine BS_iconst dL_law_793 (by decide) ?_
  refine BS_iadd dL_law_794 ?_
  refine BS_iaload dL_law_795 ?_
  refine BS_aload_n dL_law_796 rfl ?_
  refine BS_iload dL_law_797 ?_
  exact bs_L_law_b799
noncomputable def F_L_law_b888 : KK (L_S ⊕ OO) :=
  op_push (.int 1) <| op_i2 (fun x y => x + y) <| op_iald 1 <| op_ald 0 <| op_ild 4 <| op_push (.int 2) <| op_i2 (fun x y => x + y) <| op_iald 1 <| op_ald 0 <| op_ild 4 <| op_push (.int 3) <| op_i2 (fun x y => x + y) <| op_iald 1 <| op_ald 0 <| op_ild 4 <| op_push (.int 4) <| op_i2 (fun x y => x + y) <| op_iald 1 <| op_ald 0 <| op_ild 4 <| op_push (.int 5) <| op_i2 (fun x y => x + y) <| op_iald 1 <| op_ald 0 <| op_ild 4 <| op_push (.int 6) <| op_i2 (fun x y => x + y) <| op_iald 1 <| op_ald 0 <| op_ild 4 <| op_push (.int 7) <| op_i2 (fun x y => x + y) <| op_iald 1 <| op_ald 0 <| op_ild 4 <| op_push (.int 8) <| op_i2 (fun x y => x + y) <| op_iald 1 <| op_call 9 (f_kd 25 F_X8_flawed) kx_no <| op_ceq (op_iinc 4 9 <| op_back) (op_exit <| op_push (.int 0) <| op_iret .boolean)
theorem bs_L_law_b888 : B_S M_L_law 888 (F_L_law_b888) (z_L z_O) (k_L 23 k_O) := by
  unfold F_L_law_b888
  refine BS_iconst dL_law_888 (by decide) ?_
  refine BS_iadd dL_law_889 ?_
  refine BS_iaload dL_law_890 ?_
  refine BS_aload_n dL_law_891 rfl ?_
  refine BS_iload dL_law_892 ?_
  refine BS_iconst dL_law_894 (by decide) ?_
  refine BS_iadd dL_law_895 ?_
  refine BS_iaload dL_law_896 ?_
  refine BS_aload_n dL_law_897 rfl ?_
  refine BS_iload dL_law_898 ?_
  refine BS_iconst dL_law_900 (by decide) ?_
  refine BS_iadd dL_law_901 ?_
  refine BS_iaload dL_law_902 ?_
  refine BS_aload_n dL_law_903 rfl ?_
  refine BS_iload dL_law_904 ?_
  refine BS_iconst dL_law_906 (by decide) ?_
  refine BS_iadd dL_law_907 ?_
  refine BS_iaload dL_law_908 ?_
  refine BS_aload_n dL_law_909 rfl ?_
  refine BS_iload dL_law_910 ?_
  refine BS_iconst dL_law_912 (by decide) ?_
  refine BS_iadd dL_law_913 ?_
  refine BS_iaload dL_law_914 ?_
  refine BS_aload_n dL_law_915 rfl ?_
  refine BS_iload dL_law_916 ?_
  refine BS_bipush dL_law_918 (by decide) ?_
  refine BS_iadd dL_law_920 ?_
  refine BS_iaload dL_law_921 ?_
  refine BS_aload_n dL_law_922 rfl ?_
  refine BS_iload dL_law_923 ?_
  refine BS_bipush dL_law_925 (by decide) ?_
  refine BS_iadd dL_law_927 ?_
  refine BS_iaload dL_law_928 ?_
  refine BS_aload_n dL_law_929 rfl ?_
  refine BS_iload dL_law_930 ?_
  refine BS_bipush dL_law_932 (by decide) ?_
  refine BS_iadd dL_law_934 ?_
  refine BS_iaload dL_law_935 ?_
  refine BS_call (run_V dL_law_936 con_X8_flawed (ci := 15) rfl rfl q2168 q2169 q2170 q146 q2171 pd_X8_flawed ⟨Nat.le_of_ble_eq_true rfl, Nat.le_of_ble_eq_true rfl⟩) BV_no ?_
  refine BS_icmp_eq (tgt := 2374) dL_law_939 (by decide) ?_ ?_
  · refine BS_iinc dL_law_2374 (by decide) (Nat.le_of_ble_eq_true rfl) ?_
    refine BS_goto (tgt := 23) dL_law_2377 (by decide) ?_
    exact BS_back
  · refine BS_exit ?_
    refine BS_iconst dL_law_942 (by decide) ?_
    exact BS_ireturn dL_law_943 rfl
noncomputable def F_L_law_b829 : KK (L_S ⊕ OO) :=
  op_ald 1 <| op_ald 0 <| op_ild 4 <| op_push (.int 1) <| op_i2 (fun x y => x + y) <| op_iald 1 <| op_ald 0 <| op_ild 4 <| op_push (.int 2) <| op_i2 (fun x y => x + y) <| op_iald 1 <| op_ald 0 <| op_ild 4 <| op_push (.int 3) <| op_i2 (fun x y => x + y) <| op_iald 1 <| op_ald 0 <| op_ild 4 <| op_push (.int 4) <| op_i2 (fun x y => x + y) <| op_iald 1 <| op_ald 0 <| op_ild 4 <| op_push (.int 5) <| op_i2 (fun x y => x + y) <| op_iald 1 <| op_ald 0 <| op_ild 4 <| op_push (.int 6) <| op_i2 (fun x y => x + y) <| op_iald 1 <| op_ald 0 <| op_ild 4 <| op_push (.int 7) <| op_i2 (fun x y => x + y) <| op_iald 1 <| op_ald 0 <| op_ild 4 <| op_push (.int 8) <| op_i2 (fun x y => x + y) <| op_iald 1 <| op_call 9 (f_kd 10 F_X1_flawed) kx_no <| op_ald 2 <| op_ald 0 <| op_ild 4 <| F_L_law_b888
theorem bs_L_law_b829 : B_S M_L_law 829 (F_L_law_b829) (z_L z_O) (k_L 23 k_O) := by
  unfold F_L_law_b829
  refine BS_aload_n dL_law_829 rfl ?_
  refine BS_aload_n dL_law_830 rfl ?_
  refine BS_iload dL_law_831 ?_
  refine BS_iconst dL_law_833 (by decide) ?_
  refine BS_iadd dL_law_834 ?_
  refine BS_iaload dL_law_835 ?_
  refine BS_aload_n dL_law_836 rfl ?_
  refine BS_iload dL_law_837 ?_
  refine BS_iconst dL_law_839 (by decide) ?_
  refine BS_iadd dL_law_840 ?_
  refine BS_iaload dL_law_841 ?_
  refine BS_aload_n dL_law_842 rfl ?_
  refine BS_iload dL_law_843 ?_
  refine BS_iconst dL_law_845 (by decide) ?_
  refine BS_iadd dL_law_846 ?_
  refine BS_iaload dL_law_847 ?_
  refine BS_aload_n dL_law_848 rfl ?_
  refine BS_iload dL_law_849 ?_
  refine BS_iconst dL_law_851 (by decide) ?_
  refine BS_iadd dL_law_852 ?_
  refine BS_iaload dL_law_853 ?_
  refine BS_aload_n dL_law_854 rfl ?_
  refine BS_iload dL_law_855 ?_
  refine BS_iconst dL_law_857 (by decide) ?_
  refine BS_iadd dL_law_858 ?_
  refine BS_iaload dL_law_859 ?_
  refine BS_aload_n dL_law_860 rfl ?_
  refine BS_iload dL_law_861 ?_
  refine BS_bipush dL_law_863 (by decide) ?_
  refine BS_iadd dL_law_865 ?_
  refine BS_iaload dL_law_866 ?_
  refine BS_aload_n dL_law_867 rfl ?_
  refine BS_iload dL_law_868 ?_
  refine BS_bipush dL_law_870 (by decide) ?_
  refine BS_iadd dL_law_872 ?_
  refine BS_iaload dL_law_873 ?_
  refine BS_aload_n dL_law_874 rfl ?_
  refine BS_iload dL_law_875 ?_
  refine BS_bipush dL_law_877 (by decide) ?_
  refine BS_iadd dL_law_879 ?_
  refine BS_iaload dL_law_880 ?_
  refine BS_call (run_V dL_law_881 con_X1_flawed (ci := 0) rfl rfl q1244 q1245 q1246 q136 q1247 pd_X1_flawed ⟨Nat.le_of_ble_eq_true rfl, Nat.le_of_ble_eq_true rfl⟩) BV_no ?_
  refine BS_aload_n dL_law_884 rfl ?_
  refine BS_aload_n dL_law_885 rfl ?_
  refine BS_iload dL_law_886 ?_
  exact bs_L_law_b888
noncomputable def F_L_law_b1067 : KK (L_S ⊕ OO) :=
  op_call 9 (f_kd 25 F_X8_odds) kx_no <| op_lcmp <| op_ieq (op_iinc 4 9 <| op_back) (op_exit <| op_push (.int 0) <| op_iret .boolean)
theorem bs_L_law_b1067 : B_S M_L_law 1067 (F_L_law_b1067) (z_L z_O) (k_L 23 k_O) := by
  unfold F_L_law_b1067
  refine BS_call (run_V dL_law_1067 con_X8_odds (ci := 15) rfl rfl q2172 q2173 q2174 q146 q2175 pd_X8_odds ⟨Nat.le_of_ble_eq_true rfl, Nat.le_of_ble_eq_true rfl⟩) BV_no ?_
  refine BS_lcmp dL_law_1070 ?_
  refine BS_if_eq (tgt := 2374) dL_law_1071 (by decide) ?_ ?_
  · refine BS_iinc dL_law_2374 (by decide) (Nat.le_of_ble_eq_true rfl) ?_
    refine BS_goto (tgt := 23) dL_law_2377 (by decide) ?_
    exact BS_back
  · refine BS_exit ?_
    refine BS_iconst dL_law_1074 (by decide) ?_
    exact BS_ireturn dL_law_1075 rfl
noncomputable def F_L_law_b1063 : KK (L_S ⊕ OO) :=
  F_L_law_b1067
theorem bs_L_law_b1063 : B_S M_L_law 1063 (F_L_law_b1063) (z_L z_O) (k_L 23 k_O) := by
  unfold F_L_law_b1063
  refine BS_goto (tgt := 1067) dL_law_1063 (by decide) ?_
  exact bs_L_law_b1067
noncomputable def F_L_law_b1004 : KK (L_S ⊕ OO) :=
  op_call 9 (f_kd 10 F_X1_odds) kx_no <| op_ald 2 <| op_ald 0 <| op_ild 4 <| op_push (.int 1) <| op_i2 (fun x y => x + y) <| op_iald 1 <| op_ald 0 <| op_ild 4 <| op_push (.int 2) <| op_i2 (fun x y => x + y) <| op_iald 1 <| op_ald 0 <| op_ild 4 <| op_push (.int 3) <| op_i2 (fun x y => x + y) <| op_iald 1 <| op_ald 0 <| op_ild 4 <| op_push (.int 4) <| op_i2 (fun x y => x + y) <| op_iald 1 <| op_ald 0 <| op_ild 4 <| op_push (.int 5) <| op_i2 (fun x y => x + y) <| op_iald 1 <| op_ald 0 <| op_ild 4 <| op_push (.int 6) <| op_i2 (fun x y => x + y) <| op_iald 1 <| op_ald 0 <| op_ild 4 <| op_push (.int 7) <| op_i2 (fun x y => x + y) <| op_iald 1 <| op_ald 0 <| op_ild 4 <| op_push (.int 8) <| op_i2 (fun x y => x + y) <| op_iald 1 <| op_ieq (op_push (.int 0) <| F_L_law_b1067) (op_push (.int 1) <| F_L_law_b1063)
theorem bs_L_law_b1004 : B_S M_L_law 1004 (F_L_law_b1004) (z_L z_O) (k_L 23 k_O) := by
  unfold F_L_law_b1004
  refine BS_call (run_V dL_law_1004 con_X1_odds (ci := 0) rfl rfl q1252 q1253 q1254 q136 q1255 pd_X1_odds ⟨Nat.le_of_ble_eq_true rfl, Nat.le_of_ble_eq_true rfl⟩) BV_no ?_
  refine BS_aload_n dL_law_1007 rfl ?_
  refine BS_aload_n dL_law_1008 rfl ?_
  refine BS_iload dL_law_1009 ?_
  refine BS_iconst dL_law_1011 (by decide) ?_
  refine BS_iadd dL_law_1012 ?_
  refine BS_iaload dL_law_1013 ?_
  refine BS_aload_n dL_law_1014 rfl ?_
  refine BS_iload dL_law_1015 ?_
  refine BS_iconst dL_law_1017 (by decide) ?_
  refine BS_iadd dL_law_1018 ?_
  refine BS_iaload dL_law_1019 ?_
  refine BS_aload_n dL_law_1020 rfl ?_
  refine BS_iload dL_law_1021 ?_
  refine BS_iconst dL_law_1023 (by decide) ?_
  refine BS_iadd dL_law_1024 ?_
  refine BS_iaload dL_law_1025 ?_
  refine BS_aload_n dL_law_1026 rfl ?_
  refine BS_iload dL_law_1027 ?_
  refine BS_iconst dL_law_1029 (by decide) ?_
  refine BS_iadd dL_law_1030 ?_
  refine BS_iaload dL_law_1031 ?_
  refine BS_aload_n dL_law_1032 rfl ?_
  refine BS_iload dL_law_1033 ?_
  refine BS_iconst dL_law_1035 (by decide) ?_
  refine BS_iadd dL_law_1036 ?_
  refine BS_iaload dL_law_1037 ?_
  refine BS_aload_n dL_law_1038 rfl ?_
  refine BS_iload dL_law_1039 ?_
  refine BS_bipush dL_law_1041 (by decide) ?_
  refine BS_iadd dL_law_1043 ?_
  refine BS_iaload dL_law_1044 ?_
  refine BS_aload_n dL_law_1045 rfl ?_
  refine BS_iload dL_law_1046 ?_
  refine BS_bipush dL_law_1048 (by decide) ?_
  refine BS_iadd dL_law_1050 ?_
  refine BS_iaload dL_law_1051 ?_
  refine BS_aload_n dL_law_1052 rfl ?_
  refine BS_iload dL_law_1053 ?_
  refine BS_bipush dL_law_1055 (by decide) ?_
  refine BS_iadd dL_law_1057 ?_
  refine BS_iaload dL_law_1058 ?_
  refine BS_if_eq (tgt := 1066) dL_law_1059 (by decide) ?_ ?_
  · refine BS_iconst dL_law_1066 (by decide) ?_
    exact bs_L_law_b1067
  · refine BS_iconst dL_law_1062 (by decide) ?_
    exact bs_L_law_b1063
noncomputable def F_L_law_b944 : KK (L_S ⊕ OO) :=
  op_ald 1 <| op_ald 0 <| op_ild 4 <| op_push (.int 1) <| op_i2 (fun x y => x + y) <| op_iald 1 <| op_ald 0 <| op_ild 4 <| op_push (.int 2) <| op_i2 (fun x y => x + y) <| op_iald 1 <| op_ald 0 <| op_ild 4 <| op_push (.int 3) <| op_i2 (fun x y => x + y) <| op_iald 1 <| op_ald 0 <| op_ild 4 <| op_push (.int 4) <| op_i2 (fun x y => x + y) <| op_iald 1 <| op_ald 0 <| op_ild 4 <| op_push (.int 5) <| op_i2 (fun x y => x + y) <| op_iald 1 <| op_ald 0 <| op_ild 4 <| op_push (.int 6) <| op_i2 (fun x y => x + y) <| op_iald 1 <| op_ald 0 <| op_ild 4 <| op_push (.int 7) <| op_i2 (fun x y => x + y) <| op_iald 1 <| op_ald 0 <| op_ild 4 <| op_push (.int 8) <| op_i2 (fun x y => x + y) <| op_iald 1 <| op_ieq (op_push (.int 0) <| F_L_law_b1004) (op_push (.int 1) <| F_L_law_b1004)
theorem bs_L_law_b944 : B_S M_L_law 944 (F_L_law_b944) (z_L z_O) (k_L 23 k_O) := by
  unfold F_L_law_b944
  refine BS_aload_n dL_law_944 rfl ?_
  refine BS_aload_n dL_law_945 rfl ?_
  refine BS_iload dL_law_946 ?_
  refine BS_iconst dL_law_948 (by decide) ?_
  refine BS_iadd dL_law_949 ?_
  refine BS_iaload dL_law_950 ?_
  refine BS_aload_n dL_law_951 rfl ?_
  refine BS_iload dL_law_952 ?_
  refine BS_iconst dL_law_954 (by decide) ?_
  refine BS_iadd dL_law_955 ?_
  refine BS_iaload dL_law_956 ?_
  refine BS_aload_n dL_law_957 rfl ?_
  refine BS_iload dL_law_958 ?_
  refine BS_iconst dL_law_960 (by decide) ?_
  refine BS_iadd dL_law_961 ?_
  refine BS_iaload dL_law_962 ?_
  refine BS_aload_n dL_law_963 rfl ?_
  refine BS_iload dL_law_964 ?_
  refine BS_iconst dL_law_966 (by decide) ?_
  refine BS_iadd dL_law_967 ?_
  refine BS_iaload dL_law_968 ?_
  refine BS_aload_n dL_law_969 rfl ?_
  refine BS_iload dL_law_970 ?_
  refine BS_iconst dL_law_972 (by decide) ?_
  refine BS_iadd dL_law_973 ?_
  refine BS_iaload dL_law_974 ?_
  refine BS_aload_n dL_law_975 rfl ?_
  refine BS_iload dL_law_976 ?_
  refine BS_bipush dL_law_978 (by decide) ?_
  refine BS_iadd dL_law_980 ?_
  refine BS_iaload dL_law_981 ?_
  refine BS_aload_n dL_law_982 rfl ?_
  refine BS_iload dL_law_983 ?_
  refine BS_bipush dL_law_985 (by decide) ?_
  refine BS_iadd dL_law_987 ?_
  refine BS_iaload dL_law_988 ?_
  refine BS_aload_n dL_law_989 rfl ?_
  refine BS_iload dL_law_990 ?_
  refine BS_bipush dL_law_992 (by decide) ?_
  refine BS_iadd dL_law_994 ?_
  refine BS_iaload dL_law_995 ?_
  refine BS_if_eq (tgt := 1003) dL_law_996 (by decide) ?_ ?_
  · refine BS_iconst dL_law_1003 (by decide) ?_
    exact bs_L_law_b1004
  · refine BS_iconst dL_law_999 (by decide) ?_
    refine BS_goto (tgt := 1004) dL_law_1000 (by decide) ?_
    exact bs_L_law_b1004
noncomputable def F_L_law_b1076 : KK (L_S ⊕ OO) :=
  op_ald 1 <| op_ald 0 <| op_ild 4 <| op_push (.int 1) <| op_i2 (fun x y => x + y) <| op_iald 1 <| op_ald 0 <| op_ild 4 <| op_push (.int 2) <| op_i2 (fun x y => x + y) <| op_iald 1 <| op_ald 0 <| op_ild 4 <| op_push (.int 3) <| op_i2 (fun x y => x + y) <| op_iald 1 <| op_ald 0 <| op_ild 4 <| op_push (.int 4) <| op_i2 (fun x y => x + y) <| op_iald 1 <| op_call 5 (f_kd 10 F_X1_best) kx_no <| op_ald 2 <| op_ald 0 <| op_ild 4 <| op_push (.int 1) <| op_i2 (fun x y => x + y) <| op_iald 1 <| op_ald 0 <| op_ild 4 <| op_push (.int 2) <| op_i2 (fun x y => x + y) <| op_iald 1 <| op_ald 0 <| op_ild 4 <| op_push (.int 3) <| op_i2 (fun x y => x + y) <| op_iald 1 <| op_ald 0 <| op_ild 4 <| op_push (.int 4) <| op_i2 (fun x y => x + y) <| op_iald 1 <| op_call 5 (f_kd 25 F_X8_best) kx_no <| op_ceq (op_iinc 4 9 <| op_back) (op_exit <| op_push (.int 0) <| op_iret .boolean)
theorem bs_L_law_b1076 : B_S M_L_law 1076 (F_L_law_b1076) (z_L z_O) (k_L 23 k_O) := by
  unfold F_L_law_b1076
  refine BS_aload_n dL_law_1076 rfl ?_
  refine BS_aload_n dL_law_1077 rfl ?_
  refine BS_iload dL_law_1078 ?_
  refine BS_iconst dL_law_1080 (by decide) ?_
  refine BS_iadd dL_law_1081 ?_
  refine BS_iaload dL_law_1082 ?_
  refine BS_aload_n dL_law_1083 rfl ?_
  refine BS_iload dL_law_1084 ?_
  refine BS_iconst dL_law_1086 (by decide) ?_
  refine BS_iadd dL_law_1087 ?_
  refine BS_iaload dL_law_1088 ?_
  refine BS_aload_n dL_law_1089 rfl ?_
  refine BS_iload dL_law_1090 ?_
  refine BS_iconst dL_law_1092 (by decide) ?_
  refine BS_iadd dL_law_1093 ?_
  refine BS_iaload dL_law_1094 ?_
  refine BS_aload_n dL_law_1095 rfl ?_
  refine BS_iload dL_law_1096 ?_
  refine BS_iconst dL_law_1098 (by decide) ?_
  refine BS_iadd dL_law_1099 ?_
  refine BS_iaload dL_law_1100 ?_
  refine BS_call (run_V dL_law_1101 con_X1_best (ci := 0) rfl rfl q1280 q1281 q1282 q136 q1283 pd_X1_best ⟨Nat.le_of_ble_eq_true rfl, Nat.le_of_ble_eq_true rfl⟩) BV_no ?_
  refine BS_aload_n dL_law_1104 rfl ?_
  refine BS_aload_n dL_law_1105 rfl ?_
  refine BS_iload dL_law_1106 ?_
  refine BS_iconst dL_law_1108 (by decide) ?_
  refine BS_iadd dL_law_1109 ?_
  refine BS_iaload dL_law_1110 ?_
  refine BS_aload_n dL_law_1111 rfl ?_
  refine BS_iload dL_law_1112 ?_
  refine BS_iconst dL_law_1114 (by decide) ?_
  refine BS_iadd dL_law_1115 ?_
  refine BS_iaload dL_law_1116 ?_
  refine BS_aload_n dL_law_1117 rfl ?_
  refine BS_iload dL_law_1118 ?_
  refine BS_iconst dL_law_1120 (by decide) ?_
  refine BS_iadd dL_law_1121 ?_
  refine BS_iaload dL_law_1122 ?_
  refine BS_aload_n dL_law_1123 rfl ?_
  refine BS_iload dL_law_1124 ?_
  refine BS_iconst dL_law_1126 (by decide) ?_
  refine BS_iadd dL_law_1127 ?_
  refine BS_iaload dL_law_1128 ?_
  refine BS_call (run_V dL_law_1129 con_X8_best (ci := 15) rfl rfl q2196 q2197 q2198 q146 q2199 pd_X8_best ⟨Nat.le_of_ble_eq_true rfl, Nat.le_of_ble_eq_true rfl⟩) BV_no ?_
  refine BS_icmp_eq (tgt := 2374) dL_law_1132 (by decide) ?_ ?_
  · refine BS_iinc dL_law_2374 (by decide) (Nat.le_of_ble_eq_true rfl) ?_
    refine BS_goto (tgt := 23) dL_law_2377 (by decide) ?_
    exact BS_back
  · refine BS_exit ?_
    refine BS_iconst dL_law_1135 (by decide) ?_
    exact BS_ireturn dL_law_1136 rfl
noncomputable def F_L_law_b1137 : KK (L_S ⊕ OO) :=
  op_ald 1 <| op_ald 0 <| op_ild 4 <| op_push (.int 1) <| op_i2 (fun x y => x + y) <| op_iald 1 <| op_ald 0 <| op_ild 4 <| op_push (.int 2) <| op_i2 (fun x y => x + y) <| op_iald 1 <| op_ald 0 <| op_ild 4 <| op_push (.int 3) <| op_i2 (fun x y => x + y) <| op_iald 1 <| op_call 4 (f_kd 10 F_X1_rests) kx_no <| op_ald 2 <| op_ald 0 <| op_ild 4 <| op_push (.int 1) <| op_i2 (fun x y => x + y) <| op_iald 1 <| op_ald 0 <| op_ild 4 <| op_push (.int 2) <| op_i2 (fun x y => x + y) <| op_iald 1 <| op_ald 0 <| op_ild 4 <| op_push (.int 3) <| op_i2 (fun x y => x + y) <| op_iald 1 <| op_call 4 (f_kd 25 F_X8_rests) kx_no <| op_ceq (op_iinc 4 9 <| op_back) (op_exit <| op_push (.int 0) <| op_iret .boolean)
theorem bs_L_law_b1137 : B_S M_L_law 1137 (F_L_law_b1137) (z_L z_O) (k_L 23 k_O) := by
  unfold F_L_law_b1137
  refine BS_aload_n dL_law_1137 rfl ?_
  refine BS_aload_n dL_law_1138 rfl ?_
  refine BS_iload dL_law_1139 ?_
  refine BS_iconst dL_law_1141 (by decide) ?_
  refine BS_iadd dL_law_1142 ?_
  refine BS_iaload dL_law_1143 ?_
  refine BS_aload_n dL_law_1144 rfl ?_
  refine BS_iload dL_law_1145 ?_
  refine BS_iconst dL_law_1147 (by decide) ?_
  refine BS_iadd dL_law_1148 ?_
  refine BS_iaload dL_law_1149 ?_
  refine BS_aload_n dL_law_1150 rfl ?_
  refine BS_iload dL_law_1151 ?_
  refine BS_iconst dL_law_1153 (by decide) ?_
  refine BS_iadd dL_law_1154 ?_
  refine BS_iaload dL_law_1155 ?_
  refine BS_call (run_V dL_law_1156 con_X1_rests (ci := 0) rfl rfl q1292 q1293 q1294 q136 q1295 pd_X1_rests ⟨Nat.le_of_ble_eq_true rfl, Nat.le_of_ble_eq_true rfl⟩) BV_no ?_
  refine BS_aload_n dL_law_1159 rfl ?_
  refine BS_aload_n dL_law_1160 rfl ?_
  refine BS_iload dL_law_1161 ?_
  refine BS_iconst dL_law_1163 (by decide) ?_
  refine BS_iadd dL_law_1164 ?_
  refine BS_iaload dL_law_1165 ?_
  refine BS_aload_n dL_law_1166 rfl ?_
  refine BS_iload dL_law_1167 ?_
  refine BS_iconst dL_law_1169 (by decide) ?_
  refine BS_iadd dL_law_1170 ?_
  refine BS_iaload dL_law_1171 ?_
  refine BS_aload_n dL_law_1172 rfl ?_
  refine BS_iload dL_law_1173 ?_
  refine BS_iconst dL_law_1175 (by decide) ?_
  refine BS_iadd dL_law_1176 ?_
  refine BS_iaload dL_law_1177 ?_
  refine BS_call (run_V dL_law_1178 con_X8_rests (ci := 15) rfl rfl q2207 q2208 q2209 q146 q2210 pd_X8_rests ⟨Nat.le_of_ble_eq_true rfl, Nat.le_of_ble_eq_true rfl⟩) BV_no ?_
  refine BS_icmp_eq (tgt := 2374) dL_law_1181 (by decide) ?_ ?_
  · refine BS_iinc dL_law_2374 (by decide) (Nat.le_of_ble_eq_true rfl) ?_
    refine BS_goto (tgt := 23) dL_law_2377 (by decide) ?_
    exact BS_back
  · refine BS_exit ?_
    refine BS_iconst dL_law_1184 (by decide) ?_
    exact BS_ireturn dL_law_1185 rfl
noncomputable def F_L_law_b1186 : KK (L_S ⊕ OO) :=
  op_ald 1 <| op_ald 0 <| op_ild 4 <| op_push (.int 1) <| op_i2 (fun x y => x + y) <| op_iald 1 <| op_ald 0 <| op_ild 4 <| op_push (.int 2) <| op_i2 (fun x y => x + y) <| op_iald 1 <| op_ald 0 <| op_ild 4 <| op_push (.int 3) <| op_i2 (fun x y => x + y) <| op_iald 1 <| op_call 4 (f_kd 10 F_X1_rest) kx_no <| op_ald 2 <| op_ald 0 <| op_ild 4 <| op_push (.int 1) <| op_i2 (fun x y => x + y) <| op_iald 1 <| op_ald 0 <| op_ild 4 <| op_push (.int 2) <| op_i2 (fun x y => x + y) <| op_iald 1 <| op_ald 0 <| op_ild 4 <| op_push (.int 3) <| op_i2 (fun x y => x + y) <| op_iald 1 <| op_call 4 (f_kd 25 F_X8_rest) kx_no <| op_ceq (op_iinc 4 9 <| op_back) (op_exit <| op_push (.int 0) <| op_iret .boolean)
theorem bs_L_law_b1186 : B_S M_L_law 1186 (F_L_law_b1186) (z_L z_O) (k_L 23 k_O) := by
  unfold F_L_law_b1186
  refine BS_aload_n dL_law_1186 rfl ?_
  refine BS_aload_n dL_law_1187 rfl ?_
  refine BS_iload dL_law_1188 ?_
  refine BS_iconst dL_law_1190 (by decide) ?_
  refine BS_iadd dL_law_1191 ?_
  refine BS_iaload dL_law_1192 ?_
  refine BS_aload_n dL_law_1193 rfl ?_
  refine BS_iload dL_law_1194 ?_
  refine BS_iconst dL_law_1196 (by decide) ?_
  refine BS_iadd dL_law_1197 ?_
  refine BS_iaload dL_law_1198 ?_
  refine BS_aload_n dL_law_1199 rfl ?_
  refine BS_iload dL_law_1200 ?_
  refine BS_iconst dL_law_1202 (by decide) ?_
  refine BS_iadd dL_law_1203 ?_
  refine BS_iaload dL_law_1204 ?_
  refine BS_call (run_V dL_law_1205 con_X1_rest (ci := 0) rfl rfl q1317 q1318 q1319 q136 q1320 pd_X1_rest ⟨Nat.le_of_ble_eq_true rfl, Nat.le_of_ble_eq_true rfl⟩) BV_no ?_
  refine BS_aload_n dL_law_1208 rfl ?_
  refine BS_aload_n dL_law_1209 rfl ?_
  refine BS_iload dL_law_1210 ?_
  refine BS_iconst dL_law_1212 (by decide) ?_
  refine BS_iadd dL_law_1213 ?_
  refine BS_iaload dL_law_1214 ?_
  refine BS_aload_n dL_law_1215 rfl ?_
  refine BS_iload dL_law_1216 ?_
  refine BS_iconst dL_law_1218 (by decide) ?_
  refine BS_iadd dL_law_1219 ?_
  refine BS_iaload dL_law_1220 ?_
  refine BS_aload_n dL_law_1221 rfl ?_
  refine BS_iload dL_law_1222 ?_
  refine BS_iconst dL_law_1224 (by decide) ?_
  refine BS_iadd dL_law_1225 ?_
  refine BS_iaload dL_law_1226 ?_
  refine BS_call (run_V dL_law_1227 con_X8_rest (ci := 15) rfl rfl q2223 q2224 q2225 q146 q2226 pd_X8_rest ⟨Nat.le_of_ble_eq_true rfl, Nat.le_of_ble_eq_true rfl⟩) BV_no ?_
  refine BS_icmp_eq (tgt := 2374) dL_law_1230 (by decide) ?_ ?_
  · refine BS_iinc dL_law_2374 (by decide) (Nat.le_of_ble_eq_true rfl) ?_
    refine BS_goto (tgt := 23) dL_law_2377 (by decide) ?_
    exact BS_back
  · refine BS_exit ?_
    refine BS_iconst dL_law_1233 (by decide) ?_
    exact BS_ireturn dL_law_1234 rfl
noncomputable def F_L_law_b1304 : KK (L_S ⊕ OO) :=
  op_call 5 (f_kd 25 F_X8_sure) kx_no <| op_lcmp <| op_ieq (op_iinc 4 9 <| op_back) (op_exit <| op_push (.int 0) <| op_iret .boolean)
theorem bs_L_law_b1304 : B_S M_L_law 1304 (F_L_law_b1304) (z_L z_O) (k_L 23 k_O) := by
  unfold F_L_law_b1304
  refine BS_call (run_V dL_law_1304 con_X8_sure (ci := 15) rfl rfl q2227 q2228 q2229 q146 q2230 pd_X8_sure ⟨Nat.le_of_ble_eq_true rfl, Nat.le_of_ble_eq_true rfl⟩) BV_no ?_
  refine BS_lcmp dL_law_1307 ?_
  refine BS_if_eq (tgt := 2374) dL_law_1308 (by decide) ?_ ?_
  · refine BS_iinc dL_law_2374 (by decide) (Nat.le_of_ble_eq_true rfl) ?_
    refine BS_goto (tgt := 23) dL_law_2377 (by decide) ?_
    exact BS_back
  · refine BS_exit ?_
    refine BS_iconst dL_law_1311 (by decide) ?_
    exact BS_ireturn dL_law_1312 rfl
noncomputable def F_L_law_b1268 : KK (L_S ⊕ OO) :=
  op_call 5 (f_kd 10 F_X1_sure) kx_no <| op_ald 2 <| op_ald 0 <| op_ild 4 <| op_push (.int 1) <| op_i2 (fun x y => x + y) <| op_iald 1 <| op_ald 0 <| op_ild 4 <| op_push (.int 2) <| op_i2 (fun x y => x + y) <| op_iald 1 <| op_ald 0 <| op_ild 4 <| op_push (.int 3) <| op_i2 (fun x y => x + y) <| op_iald 1 <| op_ald 0 <| op_ild 4 <| op_push (.int 4) <| op_i2 (fun x y => x + y) <| op_iald 1 <| op_ieq (op_push (.int 0) <| F_L_law_b1304) (op_push (.int 1) <| F_L_law_b1304)
theorem bs_L_law_b1268 : B_S M_L_law 1268 (F_L_law_b1268) (z_L z_O) (k_L 23 k_O) := by
  unfold F_L_law_b1268
  refine BS_call (run_V dL_law_1268 con_X1_sure (ci := 0) rfl rfl q1321 q1322 q1323 q136 q1324 pd_X1_sure ⟨Nat.le_of_ble_eq_true rfl, Nat.le_of_ble_eq_true rfl⟩) BV_no ?_
  refine BS_aload_n dL_law_1271 rfl ?_
  refine BS_aload_n dL_law_1272 rfl ?_
  refine BS_iload dL_law_1273 ?_
  refine BS_iconst dL_law_1275 (by decide) ?_
  refine BS_iadd dL_law_1276 ?_
  refine BS_iaload dL_law_1277 ?_
  refine BS_aload_n dL_law_1278 rfl ?_
  refine BS_iload dL_law_1279 ?_
  refine BS_iconst dL_law_1281 (by decide) ?_
  refine BS_iadd dL_law_1282 ?_
  refine BS_iaload dL_law_1283 ?_
  refine BS_aload_n dL_law_1284 rfl ?_
  refine BS_iload dL_law_1285 ?_
  refine BS_iconst dL_law_1287 (by decide) ?_
  refine BS_iadd dL_law_1288 ?_
  refine BS_iaload dL_law_1289 ?_
  refine BS_aload_n dL_law_1290 rfl ?_
  refine BS_iload dL_law_1291 ?_
  refine BS_iconst dL_law_1293 (by decide) ?_
  refine BS_iadd dL_law_1294 ?_
  refine BS_iaload dL_law_1295 ?_
  refine BS_if_eq (tgt := 1303) dL_law_1296 (by decide) ?_ ?_
  · refine BS_iconst dL_law_1303 (by decide) ?_
    exact bs_L_law_b1304
  · refine BS_iconst dL_law_1299 (by decide) ?_
    refine BS_goto (tgt := 1304) dL_law_1300 (by decide) ?_
    exact bs_L_law_b1304
noncomputable def F_L_law_b1235 : KK (L_S ⊕ OO) :=
  op_ald 1 <| op_ald 0 <| op_ild 4 <| op_push (.int 1) <| op_i2 (fun x y => x + y) <| op_iald 1 <| op_ald 0 <| op_ild 4 <| op_push (.int 2) <| op_i2 (fun x y => x + y) <| op_iald 1 <| op_ald 0 <| op_ild 4 <| op_push (.int 3) <| op_i2 (fun x y => x + y) <| op_iald 1 <| op_ald 0 <| op_ild 4 <| op_push (.int 4) <| op_i2 (fun x y => x + y) <| op_iald 1 <| op_ieq (op_push (.int 0) <| F_L_law_b1268) (op_push (.int 1) <| F_L_law_b1268)
theorem bs_L_law_b1235 : B_S M_L_law 1235 (F_L_law_b1235) (z_L z_O) (k_L 23 k_O) := by
  unfold F_L_law_b1235
  refine BS_aload_n dL_law_1235 rfl ?_
  refine BS_aload_n dL_law_1236 rfl ?_
  refine BS_iload dL_law_1237 ?_
  refine BS_iconst dL_law_1239 (by decide) ?_
  refine BS_iadd dL_law_1240 ?_
  refine BS_iaload dL_law_1241 ?_
  refine BS_aload_n dL_law_1242 rfl ?_
  refine BS_iload dL_law_1243 ?_
  refine BS_iconst dL_law_1245 (by decide) ?_
  refine BS_iadd dL_law_1246 ?_
  refine BS_iaload dL_law_1247 ?_
  refine BS_aload_n dL_law_1248 rfl ?_
  refine BS_iload dL_law_1249 ?_
  refine BS_iconst dL_law_1251 (by decide) ?_
  refine BS_iadd dL_law_1252 ?_
  refine BS_iaload dL_law_1253 ?_
  refine BS_aload_n dL_law_1254 rfl ?_
  refine BS_iload dL_law_1255 ?_
  refine BS_iconst dL_law_1257 (by decide) ?_
  refine BS_iadd dL_law_1258 ?_
  refine BS_iaload dL_law_1259 ?_
  refine BS_if_eq (tgt := 1267) dL_law_1260 (by decide) ?_ ?_
  · refine BS_iconst dL_law_1267 (by decide) ?_
    exact bs_L_law_b1268
  · refine BS_iconst dL_law_1263 (by decide) ?_
    refine BS_goto (tgt := 1268) dL_law_1264 (by decide) ?_
    exact bs_L_law_b1268
noncomputable def F_L_law_b1394 : KK (L_S ⊕ OO) :=
  op_call 6 (f_kd 25 F_X8_curve) kx_no <| op_lcmp <| op_ieq (op_iinc 4 9 <| op_back) (op_exit <| op_push (.int 0) <| op_iret .boolean)
theorem bs_L_law_b1394 : B_S M_L_law 1394 (F_L_law_b1394) (z_L z_O) (k_L 23 k_O) := by
  unfold F_L_law_b1394
  refine BS_call (run_V dL_law_1394 con_X8_curve (ci := 15) rfl rfl q2231 q2232 q2233 q146 q2234 pd_X8_curve ⟨Nat.le_of_ble_eq_true rfl, Nat.le_of_ble_eq_true rfl⟩) BV_no ?_
  refine BS_lcmp dL_law_1397 ?_
  refine BS_if_eq (tgt := 2374) dL_law_1398 (by decide) ?_ ?_
  · refine BS_iinc dL_law_2374 (by decide) (Nat.le_of_ble_eq_true rfl) ?_
    refine BS_goto (tgt := 23) dL_law_2377 (by decide) ?_
    exact BS_back
  · refine BS_exit ?_
    refine BS_iconst dL_law_1401 (by decide) ?_
    exact BS_ireturn dL_law_1402 rfl
noncomputable def F_L_law_b1352 : KK (L_S ⊕ OO) :=
  op_call 6 (f_kd 10 F_X1_curve) kx_no <| op_ald 2 <| op_ald 0 <| op_ild 4 <| op_push (.int 1) <| op_i2 (fun x y => x + y) <| op_iald 1 <| op_ald 0 <| op_ild 4 <| op_push (.int 2) <| op_i2 (fun x y => x + y) <| op_iald 1 <| op_ald 0 <| op_ild 4 <| op_push (.int 3) <| op_i2 (fun x y => x + y) <| op_iald 1 <| op_ald 0 <| op_ild 4 <| op_push (.int 4) <| op_i2 (fun x y => x + y) <| op_iald 1 <| op_ald 0 <| op_ild 4 <| op_push (.int 5) <| op_i2 (fun x y => x + y) <| op_iald 1 <| op_ieq (op_push (.int 0) <| F_L_law_b1394) (op_push (.int 1) <| F_L_law_b1394)
theorem bs_L_law_b1352 : B_S M_L_law 1352 (F_L_law_b1352) (z_L z_O) (k_L 23 k_O) := by
  unfold F_L_law_b1352
  refine BS_call (run_V dL_law_1352 con_X1_curve (ci := 0) rfl rfl q1337 q1338 q1339 q136 q1340 pd_X1_curve ⟨Nat.le_of_ble_eq_true rfl, Nat.le_of_ble_eq_true rfl⟩) BV_no ?_
  refine BS_aload_n dL_law_1355 rfl ?_
  refine BS_aload_n dL_law_1356 rfl ?_
  refine BS_iload dL_law_1357 ?_
  refine BS_iconst dL_law_1359 (by decide) ?_
  refine BS_iadd dL_law_1360 ?_
  refine BS_iaload dL_law_1361 ?_
  refine BS_aload_n dL_law_1362 rfl ?_
  refine BS_iload dL_law_1363 ?_
  refine BS_iconst dL_law_1365 (by decide) ?_
  refine BS_iadd dL_law_1366 ?_
  refine BS_iaload dL_law_1367 ?_
  refine BS_aload_n dL_law_1368 rfl ?_
  refine BS_iload dL_law_1369 ?_
  refine BS_iconst dL_law_1371 (by decide) ?_
  refine BS_iadd dL_law_1372 ?_
  refine BS_iaload dL_law_1373 ?_
  refine BS_aload_n dL_law_1374 rfl ?_
  refine BS_iload dL_law_1375 ?_
  refine BS_iconst dL_law_1377 (by decide) ?_
  refine BS_iadd dL_law_1378 ?_
  refine BS_iaload dL_law_1379 ?_
  refine BS_aload_n dL_law_1380 rfl ?_
  refine BS_iload dL_law_1381 ?_
  refine BS_iconst dL_law_1383 (by decide) ?_
  refine BS_iadd dL_law_1384 ?_
  refine BS_iaload dL_law_1385 ?_
  refine BS_if_eq (tgt := 1393) dL_law_1386 (by decide) ?_ ?_
  · refine BS_iconst dL_law_1393 (by decide) ?_
    exact bs_L_law_b1394
  · refine BS_iconst dL_law_1389 (by decide) ?_
    refine BS_goto (tgt := 1394) dL_law_1390 (by decide) ?_
    exact bs_L_law_b1394
noncomputable def F_L_law_b1313 : KK (L_S ⊕ OO) :=
  op_ald 1 <| op_ald 0 <| op_ild 4 <| op_push (.int 1) <| op_i2 (fun x y => x + y) <| op_iald 1 <| op_ald 0 <| op_ild 4 <| op_push (.int 2) <| op_i2 (fun x y => x + y) <| op_iald 1 <| op_ald 0 <| op_ild 4 <| op_push (.int 3) <| op_i2 (fun x y => x + y) <| op_iald 1 <| op_ald 0 <| op_ild 4 <| op_push (.int 4) <| op_i2 (fun x y => x + y) <| op_iald 1 <| op_ald 0 <| op_ild 4 <| op_push (.int 5) <| op_i2 (fun x y => x + y) <| op_iald 1 <| op_ieq (op_push (.int 0) <| F_L_law_b1352) (op_push (.int 1) <| F_L_law_b1352)
theorem bs_L_law_b1313 : B_S M_L_law 1313 (F_L_law_b1313) (z_L z_O) (k_L 23 k_O) := by
  unfold F_L_law_b1313
  refine BS_aload_n dL_law_1313 rfl ?_
  refine BS_aload_n dL_law_1314 rfl ?_
  refine BS_iload dL_law_1315 ?_
  refine BS_iconst dL_law_1317 (by decide) ?_
  refine BS_iadd dL_law_1318 ?_
  refine BS_iaload dL_law_1319 ?_
  refine BS_aload_n dL_law_1320 rfl ?_
  refine BS_iload dL_law_1321 ?_
  refine BS_iconst dL_law_1323 (by decide) ?_
  refine BS_iadd dL_law_1324 ?_
  refine BS_iaload dL_law_1325 ?_
  refine BS_aload_n dL_law_1326 rfl ?_
  refine BS_iload dL_law_1327 ?_
  refine BS_iconst dL_law_1329 (by decide) ?_
  refine BS_iadd dL_law_1330 ?_
  refine BS_iaload dL_law_1331 ?_
  refine BS_aload_n dL_law_1332 rfl ?_
  refine BS_iload dL_law_1333 ?_
  refine BS_iconst dL_law_1335 (by decide) ?_
  refine BS_iadd dL_law_1336 ?_
  refine BS_iaload dL_law_1337 ?_
  refine BS_aload_n dL_law_1338 rfl ?_
  refine BS_iload dL_law_1339 ?_
  refine BS_iconst dL_law_1341 (by decide) ?_
  refine BS_iadd dL_law_1342 ?_
  refine BS_iaload dL_law_1343 ?_
  refine BS_if_eq (tgt := 1351) dL_law_1344 (by decide) ?_ ?_
  · refine BS_iconst dL_law_1351 (by decide) ?_
    exact bs_L_law_b1352
  · refine BS_iconst dL_law_1347 (by decide) ?_
    refine BS_goto (tgt := 1352) dL_law_1348 (by decide) ?_
    exact bs_L_law_b1352
noncomputable def F_L_law_b1403 : KK (L_S ⊕ OO) :=
  op_ald 1 <| op_ald 0 <| op_ild 4 <| op_push (.int 1) <| op_i2 (fun x y => x + y) <| op_iald 1 <| op_ald 0 <| op_ild 4 <| op_push (.int 2) <| op_i2 (fun x y => x + y) <| op_iald 1 <| op_ald 0 <| op_ild 4 <| op_push (.int 3) <| op_i2 (fun x y => x + y) <| op_iald 1 <| op_call 4 (f_kd 10 F_X1_bestDay) kx_no <| op_ald 2 <| op_ald 0 <| op_ild 4 <| op_push (.int 1) <| op_i2 (fun x y => x + y) <| op_iald 1 <| op_ald 0 <| op_ild 4 <| op_push (.int 2) <| op_i2 (fun x y => x + y) <| op_iald 1 <| op_ald 0 <| op_ild 4 <| op_push (.int 3) <| op_i2 (fun x y => x + y) <| op_iald 1 <| op_call 4 (f_kd 25 F_X8_bestDay) kx_no <| op_ceq (op_iinc 4 9 <| op_back) (op_exit <| op_push (.int 0) <| op_iret .boolean)
theorem bs_L_law_b1403 : B_S M_L_law 1403 (F_L_law_b1403) (z_L z_O) (k_L 23 k_O) := by
  unfold F_L_law_b1403
  refine BS_aload_n dL_law_1403 rfl ?_
  refine BS_aload_n dL_law_1404 rfl ?_
  refine BS_iload dL_law_1405 ?_
  refine BS_iconst dL_law_1407 (by decide) ?_
  refine BS_iadd dL_law_1408 ?_
  refine BS_iaload dL_law_1409 ?_
  refine BS_aload_n dL_law_1410 rfl ?_
  refine BS_iload dL_law_1411 ?_
  refine BS_iconst dL_law_1413 (by decide) ?_
  refine BS_iadd dL_law_1414 ?_
  refine BS_iaload dL_law_1415 ?_
  refine BS_aload_n dL_law_1416 rfl ?_
  refine BS_iload dL_law_1417 ?_
  refine BS_iconst dL_law_1419 (by decide) ?_
  refine BS_iadd dL_law_1420 ?_
  refine BS_iaload dL_law_1421 ?_
  refine BS_call (run_V dL_law_1422 con_X1_bestDay (ci := 0) rfl rfl q1362 q1363 q1364 q136 q1365 pd_X1_bestDay ⟨Nat.le_of_ble_eq_true rfl, Nat.le_of_ble_eq_true rfl⟩) BV_no ?_
  refine BS_aload_n dL_law_1425 rfl ?_
  refine BS_aload_n dL_law_1426 rfl ?_
  refine BS_iload dL_law_1427 ?_
  refine BS_iconst dL_law_1429 (by decide) ?_
  refine BS_iadd dL_law_1430 ?_
  refine BS_iaload dL_law_1431 ?_
  refine BS_aload_n dL_law_1432 rfl ?_
  refine BS_iload dL_law_1433 ?_
  refine BS_iconst dL_law_1435 (by decide) ?_
  refine BS_iadd dL_law_1436 ?_
  refine BS_iaload dL_law_1437 ?_
  refine BS_aload_n dL_law_1438 rfl ?_
  refine BS_iload dL_law_1439 ?_
  refine BS_iconst dL_law_1441 (by decide) ?_
  refine BS_iadd dL_law_1442 ?_
  refine BS_iaload dL_law_1443 ?_
  refine BS_call (run_V dL_law_1444 con_X8_bestDay (ci := 15) rfl rfl q2248 q2249 q2250 q146 q2251 pd_X8_bestDay ⟨Nat.le_of_ble_eq_true rfl, Nat.le_of_ble_eq_true rfl⟩) BV_no ?_
  refine BS_icmp_eq (tgt := 2374) dL_law_1447 (by decide) ?_ ?_
  · refine BS_iinc dL_law_2374 (by decide) (Nat.le_of_ble_eq_true rfl) ?_
    refine BS_goto (tgt := 23) dL_law_2377 (by decide) ?_
    exact BS_back
  · refine BS_exit ?_
    refine BS_iconst dL_law_1450 (by decide) ?_
    exact BS_ireturn dL_law_1451 rfl
noncomputable def F_L_law_b1533 : KK (L_S ⊕ OO) :=
  op_call 6 (f_kd 25 F_X8_lawOdds) kx_no <| op_lcmp <| op_ieq (op_iinc 4 9 <| op_back) (op_exit <| op_push (.int 0) <| op_iret .boolean)
theorem bs_L_law_b1533 : B_S M_L_law 1533 (F_L_law_b1533) (z_L z_O) (k_L 23 k_O) := by
  unfold F_L_law_b1533
  refine BS_call (run_V dL_law_1533 con_X8_lawOdds (ci := 15) rfl rfl q2252 q2253 q2254 q146 q2255 pd_X8_lawOdds ⟨Nat.le_of_ble_eq_true rfl, Nat.le_of_ble_eq_true rfl⟩) BV_no ?_
  refine BS_lcmp dL_law_1536 ?_
  refine BS_if_eq (tgt := 2374) dL_law_1537 (by decide) ?_ ?_
  · refine BS_iinc dL_law_2374 (by decide) (Nat.le_of_ble_eq_true rfl) ?_
    refine BS_goto (tgt := 23) dL_law_2377 (by decide) ?_
    exact BS_back
  · refine BS_exit ?_
    refine BS_iconst dL_law_1540 (by decide) ?_
    exact BS_ireturn dL_law_1541 rfl
noncomputable def F_L_law_b1491 : KK (L_S ⊕ OO) :=
  op_call 6 (f_kd 10 F_X1_lawOdds) kx_no <| op_ald 2 <| op_ald 0 <| op_ild 4 <| op_push (.int 1) <| op_i2 (fun x y => x + y) <| op_iald 1 <| op_ald 0 <| op_ild 4 <| op_push (.int 2) <| op_i2 (fun x y => x + y) <| op_iald 1 <| op_ald 0 <| op_ild 4 <| op_push (.int 3) <| op_i2 (fun x y => x + y) <| op_iald 1 <| op_ald 0 <| op_ild 4 <| op_push (.int 4) <| op_i2 (fun x y => x + y) <| op_iald 1 <| op_ald 0 <| op_ild 4 <| op_push (.int 5) <| op_i2 (fun x y => x + y) <| op_iald 1 <| op_ieq (op_push (.int 0) <| F_L_law_b1533) (op_push (.int 1) <| F_L_law_b1533)
theorem bs_L_law_b1491 : B_S M_L_law 1491 (F_L_law_b1491) (z_L z_O) (k_L 23 k_O) := by
  unfold F_L_law_b1491
  refine BS_call (run_V dL_law_1491 con_X1_lawOdds (ci := 0) rfl rfl q1366 q1367 q1368 q136 q1369 pd_X1_lawOdds ⟨Nat.le_of_ble_eq_true rfl, Nat.le_of_ble_eq_true rfl⟩) BV_no ?_
  refine BS_aload_n dL_law_1494 rfl ?_
  refine BS_aload_n dL_law_1495 rfl ?_
  refine BS_iload dL_law_1496 ?_
  refine BS_iconst dL_law_1498 (by decide) ?_
  refine BS_iadd dL_law_1499 ?_
  refine BS_iaload dL_law_1500 ?_
  refine BS_aload_n dL_law_1501 rfl ?_
  refine BS_iload dL_law_1502 ?_
  refine BS_iconst dL_law_1504 (by decide) ?_
  refine BS_iadd dL_law_1505 ?_
  refine BS_iaload dL_law_1506 ?_
  refine BS_aload_n dL_law_1507 rfl ?_
  refine BS_iload dL_law_1508 ?_
  refine BS_iconst dL_law_1510 (by decide) ?_
  refine BS_iadd dL_law_1511 ?_
  refine BS_iaload dL_law_1512 ?_
  refine BS_aload_n dL_law_1513 rfl ?_
  refine BS_iload dL_law_1514 ?_
  refine BS_iconst dL_law_1516 (by decide) ?_
  refine BS_iadd dL_law_1517 ?_
  refine BS_iaload dL_law_1518 ?_
  refine BS_aload_n dL_law_1519 rfl ?_
  refine BS_iload dL_law_1520 ?_
  refine BS_iconst dL_law_1522 (by decide) ?_
  refine BS_iadd dL_law_1523 ?_
  refine BS_iaload dL_law_1524 ?_
  refine BS_if_eq (tgt := 1532) dL_law_1525 (by decide) ?_ ?_
  · refine BS_iconst dL_law_1532 (by decide) ?_
    exact bs_L_law_b1533
  · refine BS_iconst dL_law_1528 (by decide) ?_
    refine BS_goto (tgt := 1533) dL_law_1529 (by decide) ?_
    exact bs_L_law_b1533
noncomputable def F_L_law_b1452 : KK (L_S ⊕ OO) :=
  op_ald 1 <| op_ald 0 <| op_ild 4 <| op_push (.int 1) <| op_i2 (fun x y => x + y) <| op_iald 1 <| op_ald 0 <| op_ild 4 <| op_push (.int 2) <| op_i2 (fun x y => x + y) <| op_iald 1 <| op_ald 0 <| op_ild 4 <| op_push (.int 3) <| op_i2 (fun x y => x + y) <| op_iald 1 <| op_ald 0 <| op_ild 4 <| op_push (.int 4) <| op_i2 (fun x y => x + y) <| op_iald 1 <| op_ald 0 <| op_ild 4 <| op_push (.int 5) <| op_i2 (fun x y => x + y) <| op_iald 1 <| op_ieq (op_push (.int 0) <| F_L_law_b1491) (op_push (.int 1) <| F_L_law_b1491)
theorem bs_L_law_b1452 : B_S M_L_law 1452 (F_L_law_b1452) (z_L z_O) (k_L 23 k_O) := by
  unfold F_L_law_b1452
  refine BS_aload_n dL_law_1452 rfl ?_
  refine BS_aload_n dL_law_1453 rfl ?_
  refine BS_iload dL_law_1454 ?_
  refine BS_iconst dL_law_1456 (by decide) ?_
  refine BS_iadd dL_law_1457 ?_
  refine BS_iaload dL_law_1458 ?_
  refine BS_aload_n dL_law_1459 rfl ?_
  refine BS_iload dL_law_1460 ?_
  refine BS_iconst dL_law_1462 (by decide) ?_
  refine BS_iadd dL_law_1463 ?_
  refine BS_iaload dL_law_1464 ?_
  refine BS_aload_n dL_law_1465 rfl ?_
  refine BS_iload dL_law_1466 ?_
  refine BS_iconst dL_law_1468 (by decide) ?_
  refine BS_iadd dL_law_1469 ?_
  refine BS_iaload dL_law_1470 ?_
  refine BS_aload_n dL_law_1471 rfl ?_
  refine BS_iload dL_law_1472 ?_
  refine BS_iconst dL_law_1474 (by decide) ?_
  refine BS_iadd dL_law_1475 ?_
  refine BS_iaload dL_law_1476 ?_
  refine BS_aload_n dL_law_1477 rfl ?_
  refine BS_iload dL_law_1478 ?_
  refine BS_iconst dL_law_1480 (by decide) ?_
  refine BS_iadd dL_law_1481 ?_
  refine BS_iaload dL_law_1482 ?_
  refine BS_if_eq (tgt := 1490) dL_law_1483 (by decide) ?_ ?_
  · refine BS_iconst dL_law_1490 (by decide) ?_
    exact bs_L_law_b1491
  · refine BS_iconst dL_law_1486 (by decide) ?_
    refine BS_goto (tgt := 1491) dL_law_1487 (by decide) ?_
    exact bs_L_law_b1491
noncomputable def F_L_law_b1542 : KK (L_S ⊕ OO) :=
  op_ald 1 <| op_ald 0 <| op_ild 4 <| op_push (.int 1) <| op_i2 (fun x y => x + y) <| op_iald 1 <| op_ald 0 <| op_ild 4 <| op_push (.int 2) <| op_i2 (fun x y => x + y) <| op_iald 1 <| op_ald 0 <| op_ild 4 <| op_push (.int 3) <| op_i2 (fun x y => x + y) <| op_iald 1 <| op_call 4 (f_kd 10 F_X1_fairest) kx_no <| op_ald 2 <| op_ald 0 <| op_ild 4 <| op_push (.int 1) <| op_i2 (fun x y => x + y) <| op_iald 1 <| op_ald 0 <| op_ild 4 <| op_push (.int 2) <| op_i2 (fun x y => x + y) <| op_iald 1 <| op_ald 0 <| op_ild 4 <| op_push (.int 3) <| op_i2 (fun x y => x + y) <| op_iald 1 <| op_call 4 (f_kd 25 F_X8_fairest) kx_no <| op_ceq (op_iinc 4 9 <| op_back) (op_exit <| op_push (.int 0) <| op_iret .boolean)
theorem bs_L_law_b1542 : B_S M_L_law 1542 (F_L_law_b1542) (z_L z_O) (k_L 23 k_O) := by
  unfold F_L_law_b1542
  refine BS_aload_n dL_law_1542 rfl ?_
  refine BS_aload_n dL_law_1543 rfl ?_
  refine BS_iload dL_law_1544 ?_
  refine BS_iconst dL_law_1546 (by decide) ?_
  refine BS_iadd dL_law_1547 ?_
  refine BS_iaload dL_law_1548 ?_
  refine BS_aload_n dL_law_1549 rfl ?_
  refine BS_iload dL_law_1550 ?_
  refine BS_iconst dL_law_1552 (by decide) ?_
  refine BS_iadd dL_law_1553 ?_
  refine BS_iaload dL_law_1554 ?_
  refine BS_aload_n dL_law_1555 rfl ?_
  refine BS_iload dL_law_1556 ?_
  refine BS_iconst dL_law_1558 (by decide) ?_
  refine BS_iadd dL_law_1559 ?_
  refine BS_iaload dL_law_1560 ?_
  refine BS_call (run_V dL_law_1561 con_X1_fairest (ci := 0) rfl rfl q1397 q1398 q1399 q136 q1400 pd_X1_fairest ⟨Nat.le_of_ble_eq_true rfl, Nat.le_of_ble_eq_true rfl⟩) BV_no ?_
  refine BS_aload_n dL_law_1564 rfl ?_
  refine BS_aload_n dL_law_1565 rfl ?_
  refine BS_iload dL_law_1566 ?_
  refine BS_iconst dL_law_1568 (by decide) ?_
  refine BS_iadd dL_law_1569 ?_
  refine BS_iaload dL_law_1570 ?_
  refine BS_aload_n dL_law_1571 rfl ?_
  refine BS_iload dL_law_1572 ?_
  refine BS_iconst dL_law_1574 (by decide) ?_
  refine BS_iadd dL_law_1575 ?_
  refine BS_iaload dL_law_1576 ?_
  refine BS_aload_n dL_law_1577 rfl ?_
  refine BS_iload dL_law_1578 ?_
  refine BS_iconst dL_law_1580 (by decide) ?_
  refine BS_iadd dL_law_1581 ?_
  refine BS_iaload dL_law_1582 ?_
  refine BS_call (run_V dL_law_1583 con_X8_fairest (ci := 15) rfl rfl q2274 q2275 q2276 q146 q2277 pd_X8_fairest ⟨Nat.le_of_ble_eq_true rfl, Nat.le_of_ble_eq_true rfl⟩) BV_no ?_
  refine BS_icmp_eq (tgt := 2374) dL_law_1586 (by decide) ?_ ?_
  · refine BS_iinc dL_law_2374 (by decide) (Nat.le_of_ble_eq_true rfl) ?_
    refine BS_goto (tgt := 23) dL_law_2377 (by decide) ?_
    exact BS_back
  · refine BS_exit ?_
    refine BS_iconst dL_law_1589 (by decide) ?_
    exact BS_ireturn dL_law_1590 rfl
noncomputable def F_L_law_b1591 : KK (L_S ⊕ OO) :=
  op_ald 1 <| op_ald 0 <| op_ild 4 <| op_push (.int 1) <| op_i2 (fun x y => x + y) <| op_iald 1 <| op_call 2 (f_kd 10 F_X1_turnsOf) kx_no <| op_ald 2 <| op_ald 0 <| op_ild 4 <| op_push (.int 1) <| op_i2 (fun x y => x + y) <| op_iald 1 <| op_call 2 (f_kd 25 F_X8_turnsOf) kx_no <| op_ceq (op_iinc 4 9 <| op_back) (op_exit <| op_push (.int 0) <| op_iret .boolean)
theorem bs_L_law_b1591 : B_S M_L_law 1591 (F_L_law_b1591) (z_L z_O) (k_L 23 k_O) := by
  unfold F_L_law_b1591
  refine BS_aload_n dL_law_1591 rfl ?_
  refine BS_aload_n dL_law_1592 rfl ?_
  refine BS_iload dL_law_1593 ?_
  refine BS_iconst dL_law_1595 (by decide) ?_
  refine BS_iadd dL_law_1596 ?_
  refine BS_iaload dL_law_1597 ?_
  refine BS_call (run_V dL_law_1598 con_X1_turnsOf (ci := 0) rfl rfl q1404 q1405 q1406 q136 q1407 pd_X1_turnsOf ⟨Nat.le_of_ble_eq_true rfl, Nat.le_of_ble_eq_true rfl⟩) BV_no ?_
  refine BS_aload_n dL_law_1601 rfl ?_
  refine BS_aload_n dL_law_1602 rfl ?_
  refine BS_iload dL_law_1603 ?_
  refine BS_iconst dL_law_1605 (by decide) ?_
  refine BS_iadd dL_law_1606 ?_
  refine BS_iaload dL_law_1607 ?_
  refine BS_call (run_V dL_law_1608 con_X8_turnsOf (ci := 15) rfl rfl q2282 q2283 q2284 q146 q2285 pd_X8_turnsOf ⟨Nat.le_of_ble_eq_true rfl, Nat.le_of_ble_eq_true rfl⟩) BV_no ?_
  refine BS_icmp_eq (tgt := 2374) dL_law_1611 (by decide) ?_ ?_
  · refine BS_iinc dL_law_2374 (by decide) (Nat.le_of_ble_eq_true rfl) ?_
    refine BS_goto (tgt := 23) dL_law_2377 (by decide) ?_
    exact BS_back
  · refine BS_exit ?_
    refine BS_iconst dL_law_1614 (by decide) ?_
    exact BS_ireturn dL_law_1615 rfl
noncomputable def F_L_law_b1616 : KK (L_S ⊕ OO) :=
  op_ald 1 <| op_ald 0 <| op_ild 4 <| op_push (.int 1) <| op_i2 (fun x y => x + y) <| op_iald 1 <| op_ald 0 <| op_ild 4 <| op_push (.int 2) <| op_i2 (fun x y => x + y) <| op_iald 1 <| op_call 3 (f_kd 10 F_X1_turnAt) kx_no <| op_ald 2 <| op_ald 0 <| op_ild 4 <| op_push (.int 1) <| op_i2 (fun x y => x + y) <| op_iald 1 <| op_ald 0 <| op_ild 4 <| op_push (.int 2) <| op_i2 (fun x y => x + y) <| op_iald 1 <| op_call 3 (f_kd 25 F_X8_turnAt) kx_no <| op_ceq (op_iinc 4 9 <| op_back) (op_exit <| op_push (.int 0) <| op_iret .boolean)
theorem bs_L_law_b1616 : B_S M_L_law 1616 (F_L_law_b1616) (z_L z_O) (k_L 23 k_O) := by
  unfold F_L_law_b1616
  refine BS_aload_n dL_law_1616 rfl ?_
  refine BS_aload_n dL_law_1617 rfl ?_
  refine BS_iload dL_law_1618 ?_
  refine BS_iconst dL_law_1620 (by decide) ?_
  refine BS_iadd dL_law_1621 ?_
  refine BS_iaload dL_law_1622 ?_
  refine BS_aload_n dL_law_1623 rfl ?_
  refine BS_iload dL_law_1624 ?_
  refine BS_iconst dL_law_1626 (by decide) ?_
  refine BS_iadd dL_law_1627 ?_
  refine BS_iaload dL_law_1628 ?_
  refine BS_call (run_V dL_law_1629 con_X1_turnAt (ci := 0) rfl rfl q1428 q1429 q1430 q136 q1431 pd_X1_turnAt ⟨Nat.le_of_ble_eq_true rfl, Nat.le_of_ble_eq_true rfl⟩) BV_no ?_
  refine BS_aload_n dL_law_1632 rfl ?_
  refine BS_aload_n dL_law_1633 rfl ?_
  refine BS_iload dL_law_1634 ?_
  refine BS_iconst dL_law_1636 (by decide) ?_
  refine BS_iadd dL_law_1637 ?_
  refine BS_iaload dL_law_1638 ?_
  refine BS_aload_n dL_law_1639 rfl ?_
  refine BS_iload dL_law_1640 ?_
  refine BS_iconst dL_law_1642 (by decide) ?_
  refine BS_iadd dL_law_1643 ?_
  refine BS_iaload dL_law_1644 ?_
  refine BS_call (run_V dL_law_1645 con_X8_turnAt (ci := 15) rfl rfl q2318 q2319 q2320 q146 q2321 pd_X8_turnAt ⟨Nat.le_of_ble_eq_true rfl, Nat.le_of_ble_eq_true rfl⟩) BV_no ?_
  refine BS_icmp_eq (tgt := 2374) dL_law_1648 (by decide) ?_ ?_
  · refine BS_iinc dL_law_2374 (by decide) (Nat.le_of_ble_eq_true rfl) ?_
    refine BS_goto (tgt := 23) dL_law_2377 (by decide) ?_
    exact BS_back
  · refine BS_exit ?_
    refine BS_iconst dL_law_1651 (by decide) ?_
    exact BS_ireturn dL_law_1652 rfl
noncomputable def F_L_law_b1698 : KK (L_S ⊕ OO) :=
  op_call 3 (f_kd 25 F_X8_hand) kx_no <| op_lcmp <| op_ieq (op_iinc 4 9 <| op_back) (op_exit <| op_push (.int 0) <| op_iret .boolean)
theorem bs_L_law_b1698 : B_S M_L_law 1698 (F_L_law_b1698) (z_L z_O) (k_L 23 k_O) := by
  unfold F_L_law_b1698
  refine BS_call (run_V dL_law_1698 con_X8_hand (ci := 15) rfl rfl q2322 q2323 q2324 q146 q2325 pd_X8_hand ⟨Nat.le_of_ble_eq_true rfl, Nat.le_of_ble_eq_true rfl⟩) BV_no ?_
  refine BS_lcmp dL_law_1701 ?_
  refine BS_if_eq (tgt := 2374) dL_law_1702 (by decide) ?_ ?_
  · refine BS_iinc dL_law_2374 (by decide) (Nat.le_of_ble_eq_true rfl) ?_
    refine BS_goto (tgt := 23) dL_law_2377 (by decide) ?_
    exact BS_back
  · refine BS_exit ?_
    refine BS_iconst dL_law_1705 (by decide) ?_
    exact BS_ireturn dL_law_1706 rfl
noncomputable def F_L_law_b1674 : KK (L_S ⊕ OO) :=
  op_call 3 (f_kd 10 F_X1_hand) kx_no <| op_ald 2 <| op_ald 0 <| op_ild 4 <| op_push (.int 1) <| op_i2 (fun x y => x + y) <| op_iald 1 <| op_ald 0 <| op_ild 4 <| op_push (.int 2) <| op_i2 (fun x y => x + y) <| op_iald 1 <| op_ieq (op_push (.int 0) <| F_L_law_b1698) (op_push (.int 1) <| F_L_law_b1698)
theorem bs_L_law_b1674 : B_S M_L_law 1674 (F_L_law_b1674) (z_L z_O) (k_L 23 k_O) := by
  unfold F_L_law_b1674
  refine BS_call (run_V dL_law_1674 con_X1_hand (ci := 0) rfl rfl q1436 q1437 q1438 q136 q1439 pd_X1_hand ⟨Nat.le_of_ble_eq_true rfl, Nat.le_of_ble_eq_true rfl⟩) BV_no ?_
  refine BS_aload_n dL_law_1677 rfl ?_
  refine BS_aload_n dL_law_1678 rfl ?_
  refine BS_iload dL_law_1679 ?_
  refine BS_iconst dL_law_1681 (by decide) ?_
  refine BS_iadd dL_law_1682 ?_
  refine BS_iaload dL_law_1683 ?_
  refine BS_aload_n dL_law_1684 rfl ?_
  refine BS_iload dL_law_1685 ?_
  refine BS_iconst dL_law_1687 (by decide) ?_
  refine BS_iadd dL_law_1688 ?_
  refine BS_iaload dL_law_1689 ?_
  refine BS_if_eq (tgt := 1697) dL_law_1690 (by decide) ?_ ?_
  · refine BS_iconst dL_law_1697 (by decide) ?_
    exact bs_L_law_b1698
  · refine BS_iconst dL_law_1693 (by decide) ?_
    refine BS_goto (tgt := 1698) dL_law_1694 (by decide) ?_
    exact bs_L_law_b1698
noncomputable def F_L_law_b1653 : KK (L_S ⊕ OO) :=
  op_ald 1 <| op_ald 0 <| op_ild 4 <| op_push (.int 1) <| op_i2 (fun x y => x + y) <| op_iald 1 <| op_ald 0 <| op_ild 4 <| op_push (.int 2) <| op_i2 (fun x y => x + y) <| op_iald 1 <| op_ieq (op_push (.int 0) <| F_L_law_b1674) (op_push (.int 1) <| F_L_law_b1674)
theorem bs_L_law_b1653 : B_S M_L_law 1653 (F_L_law_b1653) (z_L z_O) (k_L 23 k_O) := by
  unfold F_L_law_b1653
  refine BS_aload_n dL_law_1653 rfl ?_
  refine BS_aload_n dL_law_1654 rfl ?_
  refine BS_iload dL_law_1655 ?_
  refine BS_iconst dL_law_1657 (by decide) ?_
  refine BS_iadd dL_law_1658 ?_
  refine BS_iaload dL_law_1659 ?_
  refine BS_aload_n dL_law_1660 rfl ?_
  refine BS_iload dL_law_1661 ?_
  refine BS_iconst dL_law_1663 (by decide) ?_
  refine BS_iadd dL_law_1664 ?_
  refine BS_iaload dL_law_1665 ?_
  refine BS_if_eq (tgt := 1673) dL_law_1666 (by decide) ?_ ?_
  · refine BS_iconst dL_law_1673 (by decide) ?_
    exact bs_L_law_b1674
  · refine BS_iconst dL_law_1669 (by decide) ?_
    refine BS_goto (tgt := 1674) dL_law_1670 (by decide) ?_
    exact bs_L_law_b1674
noncomputable def F_L_law_b1740 : KK (L_S ⊕ OO) :=
  op_call 2 (f_kd 25 F_X8_side) kx_no <| op_lcmp <| op_ieq (op_iinc 4 9 <| op_back) (op_exit <| op_push (.int 0) <| op_iret .boolean)
theorem bs_L_law_b1740 : B_S M_L_law 1740 (F_L_law_b1740) (z_L z_O) (k_L 23 k_O) := by
  unfold F_L_law_b1740
  refine BS_call (run_V dL_law_1740 con_X8_side (ci := 15) rfl rfl q2329 q2330 q2331 q146 q2332 pd_X8_side ⟨Nat.le_of_ble_eq_true rfl, Nat.le_of_ble_eq_true rfl⟩) BV_no ?_
  refine BS_lcmp dL_law_1743 ?_
  refine BS_if_eq (tgt := 2374) dL_law_1744 (by decide) ?_ ?_
  · refine BS_iinc dL_law_2374 (by decide) (Nat.le_of_ble_eq_true rfl) ?_
    refine BS_goto (tgt := 23) dL_law_2377 (by decide) ?_
    exact BS_back
  · refine BS_exit ?_
    refine BS_iconst dL_law_1747 (by decide) ?_
    exact BS_ireturn dL_law_1748 rfl
noncomputable def F_L_law_b1722 : KK (L_S ⊕ OO) :=
  op_call 2 (f_kd 10 F_X1_side) kx_no <| op_ald 2 <| op_ald 0 <| op_ild 4 <| op_push (.int 1) <| op_i2 (fun x y => x + y) <| op_iald 1 <| op_ieq (op_push (.int 0) <| F_L_law_b1740) (op_push (.int 1) <| F_L_law_b1740)
theorem bs_L_law_b1722 : B_S M_L_law 1722 (F_L_law_b1722) (z_L z_O) (k_L 23 k_O) := by
  unfold F_L_law_b1722
  refine BS_call (run_V dL_law_1722 con_X1_side (ci := 0) rfl rfl q1443 q1444 q1445 q136 q1446 pd_X1_side ⟨Nat.le_of_ble_eq_true rfl, Nat.le_of_ble_eq_true rfl⟩) BV_no ?_
  refine BS_aload_n dL_law_1725 rfl ?_
  refine BS_aload_n dL_law_1726 rfl ?_
  refine BS_iload dL_law_1727 ?_
  refine BS_iconst dL_law_1729 (by decide) ?_
  refine BS_iadd dL_law_1730 ?_
  refine BS_iaload dL_law_1731 ?_
  refine BS_if_eq (tgt := 1739) dL_law_1732 (by decide) ?_ ?_
  · refine BS_iconst dL_law_1739 (by decide) ?_
    exact bs_L_law_b1740
  · refine BS_iconst dL_law_1735 (by decide) ?_
    refine BS_goto (tgt := 1740) dL_law_1736 (by decide) ?_
    exact bs_L_law_b1740
noncomputable def F_L_law_b1707 : KK (L_S ⊕ OO) :=
  op_ald 1 <| op_ald 0 <| op_ild 4 <| op_push (.int 1) <| op_i2 (fun x y => x + y) <| op_iald 1 <| op_ieq (op_push (.int 0) <| F_L_law_b1722) (op_push (.int 1) <| F_L_law_b1722)
theorem bs_L_law_b1707 : B_S M_L_law 1707 (F_L_law_b1707) (z_L z_O) (k_L 23 k_O) := by
  unfold F_L_law_b1707
  refine BS_aload_n dL_law_1707 rfl ?_
  refine BS_aload_n dL_law_1708 rfl ?_
  refine BS_iload dL_law_1709 ?_
  refine BS_iconst dL_law_1711 (by decide) ?_
  refine BS_iadd dL_law_1712 ?_
  refine BS_iaload dL_law_1713 ?_
  refine BS_if_eq (tgt := 1721) dL_law_1714 (by decide) ?_ ?_
  · refine BS_iconst dL_law_1721 (by decide) ?_
    exact bs_L_law_b1722
  · refine BS_iconst dL_law_1717 (by decide) ?_
    refine BS_goto (tgt := 1722) dL_law_1718 (by decide) ?_
    exact bs_L_law_b1722
noncomputable def F_L_law_b1749 : KK (L_S ⊕ OO) :=
  op_ald 1 <| op_call 1 (f_kd 10 F_X1_known) kx_no <| op_ald 2 <| op_call 1 (f_kd 25 F_X8_known) kx_no <| op_ceq (op_iinc 4 9 <| op_back) (op_exit <| op_push (.int 0) <| op_iret .boolean)
theorem bs_L_law_b1749 : B_S M_L_law 1749 (F_L_law_b1749) (z_L z_O) (k_L 23 k_O) := by
  unfold F_L_law_b1749
  refine BS_aload_n dL_law_1749 rfl ?_
  refine BS_call (run_V dL_law_1750 con_X1_known (ci := 0) rfl rfl q1447 q1448 q1449 q136 q1450 pd_X1_known ⟨Nat.le_of_ble_eq_true rfl, Nat.le_of_ble_eq_true rfl⟩) BV_no ?_
  refine BS_aload_n dL_law_1753 rfl ?_
  refine BS_call (run_V dL_law_1754 con_X8_known (ci := 15) rfl rfl q2333 q2334 q2335 q146 q2336 pd_X8_known ⟨Nat.le_of_ble_eq_true rfl, Nat.le_of_ble_eq_true rfl⟩) BV_no ?_
  refine BS_icmp_eq (tgt := 2374) dL_law_1757 (by decide) ?_ ?_
  · refine BS_iinc dL_law_2374 (by decide) (Nat.le_of_ble_eq_true rfl) ?_
    refine BS_goto (tgt := 23) dL_law_2377 (by decide) ?_
    exact BS_back
  · refine BS_exit ?_
    refine BS_iconst dL_law_1760 (by decide) ?_
    exact BS_ireturn dL_law_1761 rfl
noncomputable def F_L_law_b1762 : KK (L_S ⊕ OO) :=
  op_ald 1 <| op_ald 0 <| op_ild 4 <| op_push (.int 1) <| op_i2 (fun x y => x + y) <| op_iald 1 <| op_call 2 (f_kd 10 F_X1_hens) kx_no <| op_ald 2 <| op_ald 0 <| op_ild 4 <| op_push (.int 1) <| op_i2 (fun x y => x + y) <| op_iald 1 <| op_call 2 (f_kd 25 F_X8_hens) kx_no <| op_ceq (op_iinc 4 9 <| op_back) (op_exit <| op_push (.int 0) <| op_iret .boolean)
theorem bs_L_law_b1762 : B_S M_L_law 1762 (F_L_law_b1762) (z_L z_O) (k_L 23 k_O) := by
  unfold F_L_law_b1762
  refine BS_aload_n dL_law_1762 rfl ?_
  refine BS_aload_n dL_law_1763 rfl ?_
  refine BS_iload dL_law_1764 ?_
  refine BS_iconst dL_law_1766 (by decide) ?_
  refine BS_iadd dL_law_1767 ?_
  refine BS_iaload dL_law_1768 ?_
  refine BS_call (run_V dL_law_1769 con_X1_hens (ci := 0) rfl rfl q1452 q1453 q1454 q136 q1455 pd_X1_hens ⟨Nat.le_of_ble_eq_true rfl, Nat.le_of_ble_eq_true rfl⟩) BV_no ?_
  refine BS_aload_n dL_law_1772 rfl ?_
  refine BS_aload_n dL_law_1773 rfl ?_
  refine BS_iload dL_law_1774 ?_
  refine BS_iconst dL_law_1776 (by decide) ?_
  refine BS_iadd dL_law_1777 ?_
  refine BS_iaload dL_law_1778 ?_
  refine BS_call (run_V dL_law_1779 con_X8_hens (ci := 15) rfl rfl q2338 q2339 q2340 q146 q2341 pd_X8_hens ⟨Nat.le_of_ble_eq_true rfl, Nat.le_of_ble_eq_true rfl⟩) BV_no ?_
  refine BS_icmp_eq (tgt := 2374) dL_law_1782 (by decide) ?_ ?_
  · refine BS_iinc dL_law_2374 (by decide) (Nat.le_of_ble_eq_true rfl) ?_
    refine BS_goto (tgt := 23) dL_law_2377 (by decide) ?_
    exact BS_back
  · refine BS_exit ?_
    refine BS_iconst dL_law_1785 (by decide) ?_
    exact BS_ireturn dL_law_1786 rfl
noncomputable def F_L_law_b1832 : KK (L_S ⊕ OO) :=
  op_call 3 (f_kd 25 F_X8_thumbs) kx_no <| op_lcmp <| op_ieq (op_iinc 4 9 <| op_back) (op_exit <| op_push (.int 0) <| op_iret .boolean)
theorem bs_L_law_b1832 : B_S M_L_law 1832 (F_L_law_b1832) (z_L z_O) (k_L 23 k_O) := by
  unfold F_L_law_b1832
  refine BS_call (run_V dL_law_1832 con_X8_thumbs (ci := 15) rfl rfl q2343 q2344 q2345 q146 q2346 pd_X8_thumbs ⟨Nat.le_of_ble_eq_true rfl, Nat.le_of_ble_eq_true rfl⟩) BV_no ?_
  refine BS_lcmp dL_law_1835 ?_
  refine BS_if_eq (tgt := 2374) dL_law_1836 (by decide) ?_ ?_
  · refine BS_iinc dL_law_2374 (by decide) (Nat.le_of_ble_eq_true rfl) ?_
    refine BS_goto (tgt := 23) dL_law_2377 (by decide) ?_
    exact BS_back
  · refine BS_exit ?_
    refine BS_iconst dL_law_1839 (by decide) ?_
    exact BS_ireturn dL_law_1840 rfl
noncomputable def F_L_law_b1808 : KK (L_S ⊕ OO) :=
  op_call 3 (f_kd 10 F_X1_thumbs) kx_no <| op_ald 2 <| op_ald 0 <| op_ild 4 <| op_push (.int 1) <| op_i2 (fun x y => x + y) <| op_iald 1 <| op_ald 0 <| op_ild 4 <| op_push (.int 2) <| op_i2 (fun x y => x + y) <| op_iald 1 <| op_ieq (op_push (.int 0) <| F_L_law_b1832) (op_push (.int 1) <| F_L_law_b1832)
theorem bs_L_law_b1808 : B_S M_L_law 1808 (F_L_law_b1808) (z_L z_O) (k_L 23 k_O) := by
  unfold F_L_law_b1808
  refine BS_call (run_V dL_law_1808 con_X1_thumbs (ci := 0) rfl rfl q1457 q1458 q1459 q136 q1460 pd_X1_thumbs ⟨Nat.le_of_ble_eq_true rfl, Nat.le_of_ble_eq_true rfl⟩) BV_no ?_
  refine BS_aload_n dL_law_1811 rfl ?_
  refine BS_aload_n dL_law_1812 rfl ?_
  refine BS_iload dL_law_1813 ?_
  refine BS_iconst dL_law_1815 (by decide) ?_
  refine BS_iadd dL_law_1816 ?_
  refine BS_iaload dL_law_1817 ?_
  refine BS_aload_n dL_law_1818 rfl ?_
  refine BS_iload dL_law_1819 ?_
  refine BS_iconst dL_law_1821 (by decide) ?_
  refine BS_iadd dL_law_1822 ?_
  refine BS_iaload dL_law_1823 ?_
  refine BS_if_eq (tgt := 1831) dL_law_1824 (by decide) ?_ ?_
  · refine BS_iconst dL_law_1831 (by decide) ?_
    exact bs_L_law_b1832
  · refine BS_iconst dL_law_1827 (by decide) ?_
    refine BS_goto (tgt := 1832) dL_law_1828 (by decide) ?_
    exact bs_L_law_b1832
noncomputable def F_L_law_b1787 : KK (L_S ⊕ OO) :=
  op_ald 1 <| op_ald 0 <| op_ild 4 <| op_push (.int 1) <| op_i2 (fun x y => x + y) <| op_iald 1 <| op_ald 0 <| op_ild 4 <| op_push (.int 2) <| op_i2 (fun x y => x + y) <| op_iald 1 <| op_ieq (op_push (.int 0) <| F_L_law_b1808) (op_push (.int 1) <| F_L_law_b1808)
theorem bs_L_law_b1787 : B_S M_L_law 1787 (F_L_law_b1787) (z_L z_O) (k_L 23 k_O) := by
  unfold F_L_law_b1787
  refine BS_aload_n dL_law_1787 rfl ?_
  refine BS_aload_n dL_law_1788 rfl ?_
  refine BS_iload dL_law_1789 ?_
  refine BS_iconst dL_law_1791 (by decide) ?_
  refine BS_iadd dL_law_1792 ?_
  refine BS_iaload dL_law_1793 ?_
  refine BS_aload_n dL_law_1794 rfl ?_
  refine BS_iload dL_law_1795 ?_
  refine BS_iconst dL_law_1797 (by decide) ?_
  refine BS_iadd dL_law_1798 ?_
  refine BS_iaload dL_law_1799 ?_
  refine BS_if_eq (tgt := 1807) dL_law_1800 (by decide) ?_ ?_
  · refine BS_iconst dL_law_1807 (by decide) ?_
    exact bs_L_law_b1808
  · refine BS_iconst dL_law_1803 (by decide) ?_
    refine BS_goto (tgt := 1808) dL_law_1804 (by decide) ?_
    exact bs_L_law_b1808
noncomputable def F_L_law_b1841 : KK (L_S ⊕ OO) :=
  op_ald 1 <| op_ald 0 <| op_ild 4 <| op_push (.int 1) <| op_i2 (fun x y => x + y) <| op_iald 1 <| op_ald 0 <| op_ild 4 <| op_push (.int 2) <| op_i2 (fun x y => x + y) <| op_iald 1 <| op_call 3 (f_kd 10 F_X1_let) kx_no <| op_ald 2 <| op_ald 0 <| op_ild 4 <| op_push (.int 1) <| op_i2 (fun x y => x + y) <| op_iald 1 <| op_ald 0 <| op_ild 4 <| op_push (.int 2) <| op_i2 (fun x y => x + y) <| op_iald 1 <| op_call 3 (f_kd 25 F_X8_let) kx_no <| op_ceq (op_iinc 4 9 <| op_back) (op_exit <| op_push (.int 0) <| op_iret .boolean)
theorem bs_L_law_b1841 : B_S M_L_law 1841 (F_L_law_b1841) (z_L z_O) (k_L 23 k_O) := by
  unfold F_L_law_b1841
  refine BS_aload_n dL_law_1841 rfl ?_
  refine BS_aload_n dL_law_1842 rfl ?_
  refine BS_iload dL_law_1843 ?_
  refine BS_iconst dL_law_1845 (by decide) ?_
  refine BS_iadd dL_law_1846 ?_
  refine BS_iaload dL_law_1847 ?_
  refine BS_aload_n dL_law_1848 rfl ?_
  refine BS_iload dL_law_1849 ?_
  refine BS_iconst dL_law_1851 (by decide) ?_
  refine BS_iadd dL_law_1852 ?_
  refine BS_iaload dL_law_1853 ?_
  refine BS_call (run_V dL_law_1854 con_X1_let (ci := 0) rfl rfl q1464 q1465 q1466 q136 q1467 pd_X1_let ⟨Nat.le_of_ble_eq_true rfl, Nat.le_of_ble_eq_true rfl⟩) BV_no ?_
  refine BS_aload_n dL_law_1857 rfl ?_
  refine BS_aload_n dL_law_1858 rfl ?_
  refine BS_iload dL_law_1859 ?_
  refine BS_iconst dL_law_1861 (by decide) ?_
  refine BS_iadd dL_law_1862 ?_
  refine BS_iaload dL_law_1863 ?_
  refine BS_aload_n dL_law_1864 rfl ?_
  refine BS_iload dL_law_1865 ?_
  refine BS_iconst dL_law_1867 (by decide) ?_
  refine BS_iadd dL_law_1868 ?_
  refine BS_iaload dL_law_1869 ?_
  refine BS_call (run_V dL_law_1870 con_X8_let (ci := 15) rfl rfl q2351 q2352 q2353 q146 q2354 pd_X8_let ⟨Nat.le_of_ble_eq_true rfl, Nat.le_of_ble_eq_true rfl⟩) BV_no ?_
  refine BS_icmp_eq (tgt := 2374) dL_law_1873 (by decide) ?_ ?_
  · refine BS_iinc dL_law_2374 (by decide) (Nat.le_of_ble_eq_true rfl) ?_
    refine BS_goto (tgt := 23) dL_law_2377 (by decide) ?_
    exact BS_back
  · refine BS_exit ?_
    refine BS_iconst dL_law_1876 (by decide) ?_
    exact BS_ireturn dL_law_1877 rfl
noncomputable def F_L_law_b1878 : KK (L_S ⊕ OO) :=
  op_ald 1 <| op_ald 0 <| op_ild 4 <| op_push (.int 1) <| op_i2 (fun x y => x + y) <| op_iald 1 <| op_call 2 (f_kd 10 F_X1_worth) kx_no <| op_ald 2 <| op_ald 0 <| op_ild 4 <| op_push (.int 1) <| op_i2 (fun x y => x + y) <| op_iald 1 <| op_call 2 (f_kd 25 F_X8_worth) kx_no <| op_ceq (op_iinc 4 9 <| op_back) (op_exit <| op_push (.int 0) <| op_iret .boolean)
theorem bs_L_law_b1878 : B_S M_L_law 1878 (F_L_law_b1878) (z_L z_O) (k_L 23 k_O) := by
  unfold F_L_law_b1878
  refine BS_aload_n dL_law_1878 rfl ?_
  refine BS_aload_n dL_law_1879 rfl ?_
  refine BS_iload dL_law_1880 ?_
  refine BS_iconst dL_law_1882 (by decide) ?_
  refine BS_iadd dL_law_1883 ?_
  refine BS_iaload dL_law_1884 ?_
  refine BS_call (run_V dL_law_1885 con_X1_worth (ci := 0) rfl rfl q1476 q1477 q1478 q136 q1479 pd_X1_worth ⟨Nat.le_of_ble_eq_true rfl, Nat.le_of_ble_eq_true rfl⟩) BV_no ?_
  refine BS_aload_n dL_law_1888 rfl ?_
  refine BS_aload_n dL_law_1889 rfl ?_
  refine BS_iload dL_law_1890 ?_
  refine BS_iconst dL_law_1892 (by decide) ?_
  refine BS_iadd dL_law_1893 ?_
  refine BS_iaload dL_law_1894 ?_
  refine BS_call (run_V dL_law_1895 con_X8_worth (ci := 15) rfl rfl q2359 q2360 q2361 q146 q2362 pd_X8_worth ⟨Nat.le_of_ble_eq_true rfl, Nat.le_of_ble_eq_true rfl⟩) BV_no ?_
  refine BS_icmp_eq (tgt := 2374) dL_law_1898 (by decide) ?_ ?_
  · refine BS_iinc dL_law_2374 (by decide) (Nat.le_of_ble_eq_true rfl) ?_
    refine BS_goto (tgt := 23) dL_law_2377 (by decide) ?_
    exact BS_back
  · refine BS_exit ?_
    refine BS_iconst dL_law_1901 (by decide) ?_
    exact BS_ireturn dL_law_1902 rfl
noncomputable def F_L_law_b1903 : KK (L_S ⊕ OO) :=
  op_ald 1 <| op_ald 0 <| op_ild 4 <| op_push (.int 1) <| op_i2 (fun x y => x + y) <| op_iald 1 <| op_call 2 (f_kd 10 F_X1_knob) kx_no <| op_ald 2 <| op_ald 0 <| op_ild 4 <| op_push (.int 1) <| op_i2 (fun x y => x + y) <| op_iald 1 <| op_call 2 (f_kd 25 F_X8_knob) kx_no <| op_ceq (op_iinc 4 9 <| op_back) (op_exit <| op_push (.int 0) <| op_iret .boolean)
theorem bs_L_law_b1903 : B_S M_L_law 1903 (F_L_law_b1903) (z_L z_O) (k_L 23 k_O) := by
  unfold F_L_law_b1903
  refine BS_aload_n dL_law_1903 rfl ?_
  refine BS_aload_n dL_law_1904 rfl ?_
  refine BS_iload dL_law_1905 ?_
  refine BS_iconst dL_law_1907 (by decide) ?_
  refine BS_iadd dL_law_1908 ?_
  refine BS_iaload dL_law_1909 ?_
  refine BS_call (run_V dL_law_1910 con_X1_knob (ci := 0) rfl rfl q1480 q1481 q1482 q136 q1483 pd_X1_knob ⟨Nat.le_of_ble_eq_true rfl, Nat.le_of_ble_eq_true rfl⟩) BV_no ?_
  refine BS_aload_n dL_law_1913 rfl ?_
  refine BS_aload_n dL_law_1914 rfl ?_
  refine BS_iload dL_law_1915 ?_
  refine BS_iconst dL_law_1917 (by decide) ?_
  refine BS_iadd dL_law_1918 ?_
  refine BS_iaload dL_law_1919 ?_
  refine BS_call (run_V dL_law_1920 con_X8_knob (ci := 15) rfl rfl q2363 q2364 q2365 q146 q2366 pd_X8_knob ⟨Nat.le_of_ble_eq_true rfl, Nat.le_of_ble_eq_true rfl⟩) BV_no ?_
  refine BS_icmp_eq (tgt := 2374) dL_law_1923 (by decide) ?_ ?_
  · refine BS_iinc dL_law_2374 (by decide) (Nat.le_of_ble_eq_true rfl) ?_
    refine BS_goto (tgt := 23) dL_law_2377 (by decide) ?_
    exact BS_back
  · refine BS_exit ?_
    refine BS_iconst dL_law_1926 (by decide) ?_
    exact BS_ireturn dL_law_1927 rfl
noncomputable def F_L_law_b1928 : KK (L_S ⊕ OO) :=
  op_ald 1 <| op_ald 0 <| op_ild 4 <| op_push (.int 1) <| op_i2 (fun x y => x + y) <| op_iald 1 <| op_call 2 (f_kd 10 F_X1_owners) kx_no <| op_ald 2 <| op_ald 0 <| op_ild 4 <| op_push (.int 1) <| op_i2 (fun x y => x + y) <| op_iald 1 <| op_call 2 (f_kd 25 F_X8_owners) kx_no <| op_ceq (op_iinc 4 9 <| op_back) (op_exit <| op_push (.int 0) <| op_iret .boolean)
theorem bs_L_law_b1928 : B_S M_L_law 1928 (F_L_law_b1928) (z_L z_O) (k_L 23 k_O) := by
  unfold F_L_law_b1928
  refine BS_aload_n dL_law_1928 rfl ?_
  refine BS_aload_n dL_law_1929 rfl ?_
  refine BS_iload dL_law_1930 ?_
  refine BS_iconst dL_law_1932 (by decide) ?_
  refine BS_iadd dL_law_1933 ?_
  refine BS_iaload dL_law_1934 ?_
  refine BS_call (run_V dL_law_1935 con_X1_owners (ci := 0) rfl rfl q1492 q1493 q1494 q136 q1495 pd_X1_owners ⟨Nat.le_of_ble_eq_true rfl, Nat.le_of_ble_eq_true rfl⟩) BV_no ?_
  refine BS_aload_n dL_law_1938 rfl ?_
  refine BS_aload_n dL_law_1939 rfl ?_
  refine BS_iload dL_law_1940 ?_
  refine BS_iconst dL_law_1942 (by decide) ?_
  refine BS_iadd dL_law_1943 ?_
  refine BS_iaload dL_law_1944 ?_
  refine BS_call (run_V dL_law_1945 con_X8_owners (ci := 15) rfl rfl q2375 q2376 q2377 q146 q2378 pd_X8_owners ⟨Nat.le_of_ble_eq_true rfl, Nat.le_of_ble_eq_true rfl⟩) BV_no ?_
  refine BS_icmp_eq (tgt := 2374) dL_law_1948 (by decide) ?_ ?_
  · refine BS_iinc dL_law_2374 (by decide) (Nat.le_of_ble_eq_true rfl) ?_
    refine BS_goto (tgt := 23) dL_law_2377 (by decide) ?_
    exact BS_back
  · refine BS_exit ?_
    refine BS_iconst dL_law_1951 (by decide) ?_
    exact BS_ireturn dL_law_1952 rfl
noncomputable def F_L_law_b1953 : KK (L_S ⊕ OO) :=
  op_ald 1 <| op_ald 0 <| op_ild 4 <| op_push (.int 1) <| op_i2 (fun x y => x + y) <| op_iald 1 <| op_ald 0 <| op_ild 4 <| op_push (.int 2) <| op_i2 (fun x y => x + y) <| op_iald 1 <| op_ald 0 <| op_ild 4 <| op_push (.int 3) <| op_i2 (fun x y => x + y) <| op_iald 1 <| op_call 4 (f_kd 10 F_X1_wins) kx_no <| op_ald 2 <| op_ald 0 <| op_ild 4 <| op_push (.int 1) <| op_i2 (fun x y => x + y) <| op_iald 1 <| op_ald 0 <| op_ild 4 <| op_push (.int 2) <| op_i2 (fun x y => x + y) <| op_iald 1 <| op_ald 0 <| op_ild 4 <| op_push (.int 3) <| op_i2 (fun x y => x + y) <| op_iald 1 <| op_call 4 (f_kd 25 F_X8_wins) kx_no <| op_ceq (op_iinc 4 9 <| op_back) (op_exit <| op_push (.int 0) <| op_iret .boolean)
theorem bs_L_law_b1953 : B_S M_L_law 1953 (F_L_law_b1953) (z_L z_O) (k_L 23 k_O) := by
  unfold F_L_law_b1953
  refine BS_aload_n dL_law_1953 rfl ?_
  refine BS_aload_n dL_law_1954 rfl ?_
  refine BS_iload dL_law_1955 ?_
  refine BS_iconst dL_law_1957 (by decide) ?_
  refine BS_iadd dL_law_1958 ?_
  refine BS_iaload dL_law_1959 ?_
  refine BS_aload_n dL_law_1960 rfl ?_
  refine BS_iload dL_law_1961 ?_
  refine BS_iconst dL_law_1963 (by decide) ?_
  refine BS_iadd dL_law_1964 ?_
  refine BS_iaload dL_law_1965 ?_
  refine BS_aload_n dL_law_1966 rfl ?_
  refine BS_iload dL_law_1967 ?_
  refine BS_iconst dL_law_1969 (by decide) ?_
  refine BS_iadd dL_law_1970 ?_
  refine BS_iaload dL_law_1971 ?_
  refine BS_call (run_V dL_law_1972 con_X1_wins (ci := 0) rfl rfl q1496 q1497 q1498 q136 q1499 pd_X1_wins ⟨Nat.le_of_ble_eq_true rfl, Nat.le_of_ble_eq_true rfl⟩) BV_no ?_
  refine BS_aload_n dL_law_1975 rfl ?_
  refine BS_aload_n dL_law_1976 rfl ?_
  refine BS_iload dL_law_1977 ?_
  refine BS_iconst dL_law_1979 (by decide) ?_
  refine BS_iadd dL_law_1980 ?_
  refine BS_iaload dL_law_1981 ?_
  refine BS_aload_n dL_law_1982 rfl ?_
  refine BS_iload dL_law_1983 ?_
  refine BS_iconst dL_law_1985 (by decide) ?_
  refine BS_iadd dL_law_1986 ?_
  refine BS_iaload dL_law_1987 ?_
  refine BS_aload_n dL_law_1988 rfl ?_
  refine BS_iload dL_law_1989 ?_
  refine BS_iconst dL_law_1991 (by decide) ?_
  refine BS_iadd dL_law_1992 ?_
  refine BS_iaload dL_law_1993 ?_
  refine BS_call (run_V dL_law_1994 con_X8_wins (ci := 15) rfl rfl q2379 q2380 q2381 q146 q2382 pd_X8_wins ⟨Nat.le_of_ble_eq_true rfl, Nat.le_of_ble_eq_true rfl⟩) BV_no ?_
  refine BS_icmp_eq (tgt := 2374) dL_law_1997 (by decide) ?_ ?_
  · refine BS_iinc dL_law_2374 (by decide) (Nat.le_of_ble_eq_true rfl) ?_
    refine BS_goto (tgt := 23) dL_law_2377 (by decide) ?_
    exact BS_back
  · refine BS_exit ?_
    refine BS_iconst dL_law_2000 (by decide) ?_
    exact BS_ireturn dL_law_2001 rfl
noncomputable def F_L_law_b2059 : KK (L_S ⊕ OO) :=
  op_call 4 (f_kd 25 F_X8_spoilt) kx_no <| op_ceq (op_iinc 4 9 <| op_back) (op_exit <| op_push (.int 0) <| op_iret .boolean)
theorem bs_L_law_b2059 : B_S M_L_law 2059 (F_L_law_b2059) (z_L z_O) (k_L 23 k_O) := by
  unfold F_L_law_b2059
  refine BS_call (run_V dL_law_2059 con_X8_spoilt (ci := 15) rfl rfl q2403 q2404 q2405 q146 q2406 pd_X8_spoilt ⟨Nat.le_of_ble_eq_true rfl, Nat.le_of_ble_eq_true rfl⟩) BV_no ?_
  refine BS_icmp_eq (tgt := 2374) dL_law_2062 (by decide) ?_ ?_
  · refine BS_iinc dL_law_2374 (by decide) (Nat.le_of_ble_eq_true rfl) ?_
    refine BS_goto (tgt := 23) dL_law_2377 (by decide) ?_
    exact BS_back
  · refine BS_exit ?_
    refine BS_iconst dL_law_2065 (by decide) ?_
    exact BS_ireturn dL_law_2066 rfl
noncomputable def F_L_law_b2029 : KK (L_S ⊕ OO) :=
  op_call 4 (f_kd 10 F_X1_spoilt) kx_no <| op_ald 2 <| op_ald 0 <| op_ild 4 <| op_push (.int 1) <| op_i2 (fun x y => x + y) <| op_iald 1 <| op_ald 0 <| op_ild 4 <| op_push (.int 2) <| op_i2 (fun x y => x + y) <| op_iald 1 <| op_ald 0 <| op_ild 4 <| op_push (.int 3) <| op_i2 (fun x y => x + y) <| op_iald 1 <| op_ieq (op_push (.int 0) <| F_L_law_b2059) (op_push (.int 1) <| F_L_law_b2059)
theorem bs_L_law_b2029 : B_S M_L_law 2029 (F_L_law_b2029) (z_L z_O) (k_L 23 k_O) := by
  unfold F_L_law_b2029
  refine BS_call (run_V dL_law_2029 con_X1_spoilt (ci := 0) rfl rfl q1515 q1516 q1517 q136 q1518 pd_X1_spoilt ⟨Nat.le_of_ble_eq_true rfl, Nat.le_of_ble_eq_true rfl⟩) BV_no ?_
  refine BS_aload_n dL_law_2032 rfl ?_
  refine BS_aload_n dL_law_2033 rfl ?_
  refine BS_iload dL_law_2034 ?_
  refine BS_iconst dL_law_2036 (by decide) ?_
  refine BS_iadd dL_law_2037 ?_
  refine BS_iaload dL_law_2038 ?_
  refine BS_aload_n dL_law_2039 rfl ?_
  refine BS_iload dL_law_2040 ?_
  refine BS_iconst dL_law_2042 (by decide) ?_
  refine BS_iadd dL_law_2043 ?_
  refine BS_iaload dL_law_2044 ?_
  refine BS_aload_n dL_law_2045 rfl ?_
  refine BS_iload dL_law_2046 ?_
  refine BS_iconst dL_law_2048 (by decide) ?_
  refine BS_iadd dL_law_2049 ?_
  refine BS_iaload dL_law_2050 ?_
  refine BS_if_eq (tgt := 2058) dL_law_2051 (by decide) ?_ ?_
  · refine BS_iconst dL_law_2058 (by decide) ?_
    exact bs_L_law_b2059
  · refine BS_iconst dL_law_2054 (by decide) ?_
    refine BS_goto (tgt := 2059) dL_law_2055 (by decide) ?_
    exact bs_L_law_b2059
noncomputable def F_L_law_b2002 : KK (L_S ⊕ OO) :=
  op_ald 1 <| op_ald 0 <| op_ild 4 <| op_push (.int 1) <| op_i2 (fun x y => x + y) <| op_iald 1 <| op_ald 0 <| op_ild 4 <| op_push (.int 2) <| op_i2 (fun x y => x + y) <| op_iald 1 <| op_ald 0 <| op_ild 4 <| op_push (.int 3) <| op_i2 (fun x y => x + y) <| op_iald 1 <| op_ieq (op_push (.int 0) <| F_L_law_b2029) (op_push (.int 1) <| F_L_law_b2029)
theorem bs_L_law_b2002 : B_S M_L_law 2002 (F_L_law_b2002) (z_L z_O) (k_L 23 k_O) := by
  unfold F_L_law_b2002
  refine BS_aload_n dL_law_2002 rfl ?_
  refine BS_aload_n dL_law_2003 rfl ?_
  refine BS_iload dL_law_2004 ?_
  refine BS_iconst dL_law_2006 (by decide) ?_
  refine BS_iadd dL_law_2007 ?_
  refine BS_iaload dL_law_2008 ?_
  refine BS_aload_n dL_law_2009 rfl ?_
  refine BS_iload dL_law_2010 ?_
  refine BS_iconst dL_law_2012 (by decide) ?_
  refine BS_iadd dL_law_2013 ?_
  refine BS_iaload dL_law_2014 ?_
  refine BS_aload_n dL_law_2015 rfl ?_
  refine BS_iload dL_law_2016 ?_
  refine BS_iconst dL_law_2018 (by decide) ?_
  refine BS_iadd dL_law_2019 ?_
  refine BS_iaload dL_law_2020 ?_
  refine BS_if_eq (tgt := 2028) dL_law_2021 (by decide) ?_ ?_
  · refine BS_iconst dL_law_2028 (by decide) ?_
    exact bs_L_law_b2029
  · refine BS_iconst dL_law_2024 (by decide) ?_
    refine BS_goto (tgt := 2029) dL_law_2025 (by decide) ?_
    exact bs_L_law_b2029
noncomputable def F_L_law_b2067 : KK (L_S ⊕ OO) :=
  op_ald 1 <| op_ald 0 <| op_ild 4 <| op_push (.int 1) <| op_i2 (fun x y => x + y) <| op_iald 1 <| op_call 2 (f_kd 10 F_X1_dry) kx_no <| op_ald 2 <| op_ald 0 <| op_ild 4 <| op_push (.int 1) <| op_i2 (fun x y => x + y) <| op_iald 1 <| op_call 2 (f_kd 25 F_X8_dry) kx_no <| op_ceq (op_iinc 4 9 <| op_back) (op_exit <| op_push (.int 0) <| op_iret .boolean)
theorem bs_L_law_b2067 : B_S M_L_law 2067 (F_L_law_b2067) (z_L z_O) (k_L 23 k_O) := by
  unfold F_L_law_b2067
  refine BS_aload_n dL_law_2067 rfl ?_
  refine BS_aload_n dL_law_2068 rfl ?_
  refine BS_iload dL_law_2069 ?_
  refine BS_iconst dL_law_2071 (by decide) ?_
  refine BS_iadd dL_law_2072 ?_
  refine BS_iaload dL_law_2073 ?_
  refine BS_call (run_V dL_law_2074 con_X1_dry (ci := 0) rfl rfl q1519 q1520 q1521 q136 q1522 pd_X1_dry ⟨Nat.le_of_ble_eq_true rfl, Nat.le_of_ble_eq_true rfl⟩) BV_no ?_
  refine BS_aload_n dL_law_2077 rfl ?_
  refine BS_aload_n dL_law_2078 rfl ?_
  refine BS_iload dL_law_2079 ?_
  refine BS_iconst dL_law_2081 (by decide) ?_
  refine BS_iadd dL_law_2082 ?_
  refine BS_iaload dL_law_2083 ?_
  refine BS_call (run_V dL_law_2084 con_X8_dry (ci := 15) rfl rfl q2407 q2408 q2409 q146 q2410 pd_X8_dry ⟨Nat.le_of_ble_eq_true rfl, Nat.le_of_ble_eq_true rfl⟩) BV_no ?_
  refine BS_icmp_eq (tgt := 2374) dL_law_2087 (by decide) ?_ ?_
  · refine BS_iinc dL_law_2374 (by decide) (Nat.le_of_ble_eq_true rfl) ?_
    refine BS_goto (tgt := 23) dL_law_2377 (by decide) ?_
    exact BS_back
  · refine BS_exit ?_
    refine BS_iconst dL_law_2090 (by decide) ?_
    exact BS_ireturn dL_law_2091 rfl
noncomputable def F_L_law_b2092 : KK (L_S ⊕ OO) :=
  op_ald 1 <| op_ald 0 <| op_ild 4 <| op_push (.int 1) <| op_i2 (fun x y => x + y) <| op_iald 1 <| op_call 2 (f_kd 10 F_X1_boil) kx_no <| op_ald 2 <| op_ald 0 <| op_ild 4 <| op_push (.int 1) <| op_i2 (fun x y => x + y) <| op_iald 1 <| op_call 2 (f_kd 25 F_X8_boil) kx_no <| op_ceq (op_iinc 4 9 <| op_back) (op_exit <| op_push (.int 0) <| op_iret .boolean)
theorem bs_L_law_b2092 : B_S M_L_law 2092 (F_L_law_b2092) (z_L z_O) (k_L 23 k_O) := by
  unfold F_L_law_b2092
  refine BS_aload_n dL_law_2092 rfl ?_
  refine BS_aload_n dL_law_2093 rfl ?_
  refine BS_iload dL_law_2094 ?_
  refine BS_iconst dL_law_2096 (by decide) ?_
  refine BS_iadd dL_law_2097 ?_
  refine BS_iaload dL_law_2098 ?_
  refine BS_call (run_V dL_law_2099 con_X1_boil (ci := 0) rfl rfl q1542 q1543 q1544 q136 q1545 pd_X1_boil ⟨Nat.le_of_ble_eq_true rfl, Nat.le_of_ble_eq_true rfl⟩) BV_no ?_
  refine BS_aload_n dL_law_2102 rfl ?_
  refine BS_aload_n dL_law_2103 rfl ?_
  refine BS_iload dL_law_2104 ?_
  refine BS_iconst dL_law_2106 (by decide) ?_
  refine BS_iadd dL_law_2107 ?_
  refine BS_iaload dL_law_2108 ?_
  refine BS_call (run_V dL_law_2109 con_X8_boil (ci := 15) rfl rfl q2423 q2424 q2425 q146 q2426 pd_X8_boil ⟨Nat.le_of_ble_eq_true rfl, Nat.le_of_ble_eq_true rfl⟩) BV_no ?_
  refine BS_icmp_eq (tgt := 2374) dL_law_2112 (by decide) ?_ ?_
  · refine BS_iinc dL_law_2374 (by decide) (Nat.le_of_ble_eq_true rfl) ?_
    refine BS_goto (tgt := 23) dL_law_2377 (by decide) ?_
    exact BS_back
  · refine BS_exit ?_
    refine BS_iconst dL_law_2115 (by decide) ?_
    exact BS_ireturn dL_law_2116 rfl
noncomputable def F_L_law_b2174 : KK (L_S ⊕ OO) :=
  op_push (.int 3) <| op_i2 (fun x y => x + y) <| op_iald 1 <| op_ald 0 <| op_ild 4 <| op_push (.int 4) <| op_i2 (fun x y => x + y) <| op_iald 1 <| op_ald 0 <| op_ild 4 <| op_push (.int 5) <| op_i2 (fun x y => x + y) <| op_iald 1 <| op_ald 0 <| op_ild 4 <| op_push (.int 6) <| op_i2 (fun x y => x + y) <| op_iald 1 <| op_call 7 (f_kd 25 F_X8_pull) kx_no <| op_ceq (op_iinc 4 9 <| op_back) (op_exit <| op_push (.int 0) <| op_iret .boolean)
theorem bs_L_law_b2174 : B_S M_L_law 2174 (F_L_law_b2174) (z_L z_O) (k_L 23 k_O) := by
  unfold F_L_law_b2174
  refine BS_iconst dL_law_2174 (by decide) ?_
  refine BS_iadd dL_law_2175 ?_
  refine BS_iaload dL_law_2176 ?_
  refine BS_aload_n dL_law_2177 rfl ?_
  refine BS_iload dL_law_2178 ?_
  refine BS_iconst dL_law_2180 (by decide) ?_
  refine BS_iadd dL_law_2181 ?_
  refine BS_iaload dL_law_2182 ?_
  refine BS_aload_n dL_law_2183 rfl ?_
  refine BS_iload dL_law_2184 ?_
  refine BS_iconst dL_law_2186 (by decide) ?_
  refine BS_iadd dL_law_2187 ?_
  refine BS_iaload dL_law_2188 ?_
  refine BS_aload_n dL_law_2189 rfl ?_
  refine BS_iload dL_law_2190 ?_
  refine BS_bipush dL_law_2192 (by decide) ?_
  refine BS_iadd dL_law_2194 ?_
  refine BS_iaload dL_law_2195 ?_
  refine BS_call (run_V dL_law_2196 con_X8_pull (ci := 15) rfl rfl q2427 q2428 q2429 q146 q2430 pd_X8_pull ⟨Nat.le_of_ble_eq_true rfl, Nat.le_of_ble_eq_true rfl⟩) BV_no ?_
  refine BS_icmp_eq (tgt := 2374) dL_law_2199 (by decide) ?_ ?_
  · refine BS_iinc dL_law_2374 (by decide) (Nat.le_of_ble_eq_true rfl) ?_
    refine BS_goto (tgt := 23) dL_law_2377 (by decide) ?_
    exact BS_back
  · refine BS_exit ?_
    refine BS_iconst dL_law_2202 (by decide) ?_
    exact BS_ireturn dL_law_2203 rfl
noncomputable def F_L_law_b2117 : KK (L_S ⊕ OO) :=
  op_ald 1 <| op_ald 0 <| op_ild 4 <| op_push (.int 1) <| op_i2 (fun x y => x + y) <| op_iald 1 <| op_ald 0 <| op_ild 4 <| op_push (.int 2) <| op_i2 (fun x y => x + y) <| op_iald 1 <| op_ald 0 <| op_ild 4 <| op_push (.int 3) <| op_i2 (fun x y => x + y) <| op_iald 1 <| op_ald 0 <| op_ild 4 <| op_push (.int 4) <| op_i2 (fun x y => x + y) <| op_iald 1 <| op_ald 0 <| op_ild 4 <| op_push (.int 5) <| op_i2 (fun x y => x + y) <| op_iald 1 <| op_ald 0 <| op_ild 4 <| op_push (.int 6) <| op_i2 (fun x y => x + y) <| op_iald 1 <| op_call 7 (f_kd 10 F_X1_pull) kx_no <| op_ald 2 <| op_ald 0 <| op_ild 4 <| op_push (.int 1) <| op_i2 (fun x y => x + y) <| op_iald 1 <| op_ald 0 <| op_ild 4 <| op_push (.int 2) <| op_i2 (fun x y => x + y) <| op_iald 1 <| op_ald 0 <| op_ild 4 <| F_L_law_b2174
theorem bs_L_law_b2117 : B_S M_L_law 2117 (F_L_law_b2117) (z_L z_O) (k_L 23 k_O) := by
  unfold F_L_law_b2117
  refine BS_aload_n dL_law_2117 rfl ?_
  refine BS_aload_n dL_law_2118 rfl ?_
  refine BS_iload dL_law_2119 ?_
  refine BS_iconst dL_law_2121 (by decide) ?_
  refine BS_iadd dL_law_2122 ?_
  refine BS_iaload dL_law_2123 ?_
  refine BS_aload_n dL_law_2124 rfl ?_
  refine BS_iload dL_law_2125 ?_
  refine BS_iconst dL_law_2127 (by decide) ?_
  refine BS_iadd dL_law_2128 ?_
  refine BS_iaload dL_law_2129 ?_
  refine BS_aload_n dL_law_2130 rfl ?_
  refine BS_iload dL_law_2131 ?_
  refine BS_iconst dL_law_2133 (by decide) ?_
  refine BS_iadd dL_law_2134 ?_
  refine BS_iaload dL_law_2135 ?_
  refine BS_aload_n dL_law_2136 rfl ?_
  refine BS_iload dL_law_2137 ?_
  refine BS_iconst dL_law_2139 (by decide) ?_
  refine BS_iadd dL_law_2140 ?_
  refine BS_iaload dL_law_2141 ?_
  refine BS_aload_n dL_law_2142 rfl ?_
  refine BS_iload dL_law_2143 ?_
  refine BS_iconst dL_law_2145 (by decide) ?_
  refine BS_iadd dL_law_2146 ?_
  refine BS_iaload dL_law_2147 ?_
  refine BS_aload_n dL_law_2148 rfl ?_
  refine BS_iload dL_law_2149 ?_
  refine BS_bipush dL_law_2151 (by decide) ?_
  refine BS_iadd dL_law_2153 ?_
  refine BS_iaload dL_law_2154 ?_
  refine BS_call (run_V dL_law_2155 con_X1_pull (ci := 0) rfl rfl q1546 q1547 q1548 q136 q1549 pd_X1_pull ⟨Nat.le_of_ble_eq_true rfl, Nat.le_of_ble_eq_true rfl⟩) BV_no ?_
  refine BS_aload_n dL_law_2158 rfl ?_
  refine BS_aload_n dL_law_2159 rfl ?_
  refine BS_iload dL_law_2160 ?_
  refine BS_iconst dL_law_2162 (by decide) ?_
  refine BS_iadd dL_law_2163 ?_
  refine BS_iaload dL_law_2164 ?_
  refine BS_aload_n dL_law_2165 rfl ?_
  refine BS_iload dL_law_2166 ?_
  refine BS_iconst dL_law_2168 (by decide) ?_
  refine BS_iadd dL_law_2169 ?_
  refine BS_iaload dL_law_2170 ?_
  refine BS_aload_n dL_law_2171 rfl ?_
  refine BS_iload dL_law_2172 ?_
  exact bs_L_law_b2174
noncomputable def F_L_law_b2204 : KK (L_S ⊕ OO) :=
  op_ald 1 <| op_ald 0 <| op_ild 4 <| op_push (.int 1) <| op_i2 (fun x y => x + y) <| op_iald 1 <| op_call 2 (f_kd 10 F_X1_seed) kx_no <| op_ald 2 <| op_ald 0 <| op_ild 4 <| op_push (.int 1) <| op_i2 (fun x y => x + y) <| op_iald 1 <| op_call 2 (f_kd 25 F_X8_seed) kx_no <| op_ceq (op_iinc 4 9 <| op_back) (op_exit <| op_push (.int 0) <| op_iret .boolean)
theorem bs_L_law_b2204 : B_S M_L_law 2204 (F_L_law_b2204) (z_L z_O) (k_L 23 k_O) := by
  unfold F_L_law_b2204
  refine BS_aload_n dL_law_2204 rfl ?_
  refine BS_aload_n dL_law_2205 rfl ?_
  refine BS_iload dL_law_2206 ?_
  refine BS_iconst dL_law_2208 (by decide) ?_
  refine BS_iadd dL_law_2209 ?_
  refine BS_iaload dL_law_2210 ?_
  refine BS_call (run_V dL_law_2211 con_X1_seed (ci := 0) rfl rfl q1559 q1560 q1561 q136 q1562 pd_X1_seed ⟨Nat.le_of_ble_eq_true rfl, Nat.le_of_ble_eq_true rfl⟩) BV_no ?_
  refine BS_aload_n dL_law_2214 rfl ?_
  refine BS_aload_n dL_law_2215 rfl ?_
  refine BS_iload dL_law_2216 ?_
  refine BS_iconst dL_law_2218 (by decide) ?_
  refine BS_iadd dL_law_2219 ?_
  refine BS_iaload dL_law_2220 ?_
  refine BS_call (run_V dL_law_2221 con_X8_seed (ci := 15) rfl rfl q2431 q2432 q2433 q146 q2434 pd_X8_seed ⟨Nat.le_of_ble_eq_true rfl, Nat.le_of_ble_eq_true rfl⟩) BV_no ?_
  refine BS_icmp_eq (tgt := 2374) dL_law_2224 (by decide) ?_ ?_
  · refine BS_iinc dL_law_2374 (by decide) (Nat.le_of_ble_eq_true rfl) ?_
    refine BS_goto (tgt := 23) dL_law_2377 (by decide) ?_
    exact BS_back
  · refine BS_exit ?_
    refine BS_iconst dL_law_2227 (by decide) ?_
    exact BS_ireturn dL_law_2228 rfl
noncomputable def F_L_law_b2229 : KK (L_S ⊕ OO) :=
  op_ald 1 <| op_call 1 (f_kd 10 F_X1_undo) kx_no <| op_ald 2 <| op_call 1 (f_kd 25 F_X8_undo) kx_no <| op_ceq (op_iinc 4 9 <| op_back) (op_exit <| op_push (.int 0) <| op_iret .boolean)
theorem bs_L_law_b2229 : B_S M_L_law 2229 (F_L_law_b2229) (z_L z_O) (k_L 23 k_O) := by
  unfold F_L_law_b2229
  refine BS_aload_n dL_law_2229 rfl ?_
  refine BS_call (run_V dL_law_2230 con_X1_undo (ci := 0) rfl rfl q1563 q1564 q1565 q136 q1566 pd_X1_undo ⟨Nat.le_of_ble_eq_true rfl, Nat.le_of_ble_eq_true rfl⟩) BV_no ?_
  refine BS_aload_n dL_law_2233 rfl ?_
  refine BS_call (run_V dL_law_2234 con_X8_undo (ci := 15) rfl rfl q2435 q2436 q2437 q146 q2438 pd_X8_undo ⟨Nat.le_of_ble_eq_true rfl, Nat.le_of_ble_eq_true rfl⟩) BV_no ?_
  refine BS_icmp_eq (tgt := 2374) dL_law_2237 (by decide) ?_ ?_
  · refine BS_iinc dL_law_2374 (by decide) (Nat.le_of_ble_eq_true rfl) ?_
    refine BS_goto (tgt := 23) dL_law_2377 (by decide) ?_
    exact BS_back
  · refine BS_exit ?_
    refine BS_iconst dL_law_2240 (by decide) ?_
    exact BS_ireturn dL_law_2241 rfl
noncomputable def F_L_law_b2242 : KK (L_S ⊕ OO) :=
  op_ald 1 <| op_call 1 (f_kd 10 F_X1_mark) kx_no <| op_ald 2 <| op_call 1 (f_kd 25 F_X8_mark) kx_no <| op_ceq (op_iinc 4 9 <| op_back) (op_exit <| op_push (.int 0) <| op_iret .boolean)
theorem bs_L_law_b2242 : B_S M_L_law 2242 (F_L_law_b2242) (z_L z_O) (k_L 23 k_O) := by
  unfold F_L_law_b2242
  refine BS_aload_n dL_law_2242 rfl ?_
  refine BS_call (run_V dL_law_2243 con_X1_mark (ci := 0) rfl rfl q1567 q1568 q1569 q136 q1570 pd_X1_mark ⟨Nat.le_of_ble_eq_true rfl, Nat.le_of_ble_eq_true rfl⟩) BV_no ?_
  refine BS_aload_n dL_law_2246 rfl ?_
  refine BS_call (run_V dL_law_2247 con_X8_mark (ci := 15) rfl rfl q2439 q2440 q2441 q146 q2442 pd_X8_mark ⟨Nat.le_of_ble_eq_true rfl, Nat.le_of_ble_eq_true rfl⟩) BV_no ?_
  refine BS_icmp_eq (tgt := 2374) dL_law_2250 (by decide) ?_ ?_
  · refine BS_iinc dL_law_2374 (by decide) (Nat.le_of_ble_eq_true rfl) ?_
    refine BS_goto (tgt := 23) dL_law_2377 (by decide) ?_
    exact BS_back
  · refine BS_exit ?_
    refine BS_iconst dL_law_2253 (by decide) ?_
    exact BS_ireturn dL_law_2254 rfl
noncomputable def F_L_law_b2255 : KK (L_S ⊕ OO) :=
  op_ald 1 <| op_ald 0 <| op_ild 4 <| op_push (.int 1) <| op_i2 (fun x y => x + y) <| op_iald 1 <| op_call 2 (f_kd 10 F_X1_back) kx_no <| op_ald 2 <| op_ald 0 <| op_ild 4 <| op_push (.int 1) <| op_i2 (fun x y => x + y) <| op_iald 1 <| op_call 2 (f_kd 25 F_X8_back) kx_no <| op_ceq (op_iinc 4 9 <| op_back) (op_exit <| op_push (.int 0) <| op_iret .boolean)
theorem bs_L_law_b2255 : B_S M_L_law 2255 (F_L_law_b2255) (z_L z_O) (k_L 23 k_O) := by
  unfold F_L_law_b2255
  refine BS_aload_n dL_law_2255 rfl ?_
  refine BS_aload_n dL_law_2256 rfl ?_
  refine BS_iload dL_law_2257 ?_
  refine BS_iconst dL_law_2259 (by decide) ?_
  refine BS_iadd dL_law_2260 ?_
  refine BS_iaload dL_law_2261 ?_
  refine BS_call (run_V dL_law_2262 con_X1_back (ci := 0) rfl rfl q1571 q1572 q1573 q136 q1574 pd_X1_back ⟨Nat.le_of_ble_eq_true rfl, Nat.le_of_ble_eq_true rfl⟩) BV_no ?_
  refine BS_aload_n dL_law_2265 rfl ?_
  refine BS_aload_n dL_law_2266 rfl ?_
  refine BS_iload dL_law_2267 ?_
  refine BS_iconst dL_law_2269 (by decide) ?_
  refine BS_iadd dL_law_2270 ?_
  refine BS_iaload dL_law_2271 ?_
  refine BS_call (run_V dL_law_2272 con_X8_back (ci := 15) rfl rfl q2443 q2444 q2445 q146 q2446 pd_X8_back ⟨Nat.le_of_ble_eq_true rfl, Nat.le_of_ble_eq_true rfl⟩) BV_no ?_
  refine BS_icmp_eq (tgt := 2374) dL_law_2275 (by decide) ?_ ?_
  · refine BS_iinc dL_law_2374 (by decide) (Nat.le_of_ble_eq_true rfl) ?_
    refine BS_goto (tgt := 23) dL_law_2377 (by decide) ?_
    exact BS_back
  · refine BS_exit ?_
    refine BS_iconst dL_law_2278 (by decide) ?_
    exact BS_ireturn dL_law_2279 rfl
noncomputable def F_L_law_b2333 : KK (L_S ⊕ OO) :=
  op_iinc 4 9 <| op_back
theorem bs_L_law_b2333 : B_S M_L_law 2333 (F_L_law_b2333) (z_L z_O) (k_L 23 k_O) := by
  unfold F_L_law_b2333
  refine BS_goto (tgt := 2374) dL_law_2333 (by decide) ?_
  refine BS_iinc dL_law_2374 (by decide) (Nat.le_of_ble_eq_true rfl) ?_
  refine BS_goto (tgt := 23) dL_law_2377 (by decide) ?_
  exact BS_back
noncomputable def F_L_law_b2280 : KK (L_S ⊕ OO) :=
  op_ald 1 <| op_ald 0 <| op_ild 4 <| op_push (.int 1) <| op_i2 (fun x y => x + y) <| op_iald 1 <| op_ald 3 <| op_call 3 F_X0_led kx_no <| op_ist 5 <| op_ald 2 <| op_ald 0 <| op_ild 4 <| op_push (.int 1) <| op_i2 (fun x y => x + y) <| op_iald 1 <| op_call 2 (f_kd 25 F_X8_led) kx_no <| op_ist 6 <| op_ald 2 <| op_call 1 (f_kd 25 F_X8_thrown) kx_no <| op_ild 5 <| op_ceq (op_ild 5 <| op_ine (F_L_law_b2333) (op_ald 3 <| op_push (.int 0) <| op_lald <| op_ild 6 <| op_i2l <| op_lcmp <| op_ieq (F_L_law_b2333) (op_exit <| op_push (.int 0) <| op_iret .boolean))) (op_exit <| op_push (.int 0) <| op_iret .boolean)
theorem bs_L_law_b2280 : B_S M_L_law 2280 (F_L_law_b2280) (z_L z_O) (k_L 23 k_O) := by
  unfold F_L_law_b2280
  refine BS_aload_n dL_law_2280 rfl ?_
  refine BS_aload_n dL_law_2281 rfl ?_
  refine BS_iload dL_law_2282 ?_
  refine BS_iconst dL_law_2284 (by decide) ?_
  refine BS_iadd dL_law_2285 ?_
  refine BS_iaload dL_law_2286 ?_
  refine BS_aload_n dL_law_2287 rfl ?_
  refine BS_call (run_SW dL_law_2288 con_X0_led q1583 q1584 q135 q1585 pd_X0_led ⟨Nat.le_of_ble_eq_true rfl, Nat.le_of_ble_eq_true rfl⟩) BV_no ?_
  refine BS_istore dL_law_2291 (Nat.le_of_ble_eq_true rfl) ?_
  refine BS_aload_n dL_law_2293 rfl ?_
  refine BS_aload_n dL_law_2294 rfl ?_
  refine BS_iload dL_law_2295 ?_
  refine BS_iconst dL_law_2297 (by decide) ?_
  refine BS_iadd dL_law_2298 ?_
  refine BS_iaload dL_law_2299 ?_
  refine BS_call (run_V dL_law_2300 con_X8_led (ci := 15) rfl rfl q2447 q2448 q2449 q146 q2450 pd_X8_led ⟨Nat.le_of_ble_eq_true rfl, Nat.le_of_ble_eq_true rfl⟩) BV_no ?_
  refine BS_istore dL_law_2303 (Nat.le_of_ble_eq_true rfl) ?_
  refine BS_aload_n dL_law_2305 rfl ?_
  refine BS_call (run_V dL_law_2306 con_X8_thrown (ci := 15) rfl rfl q1737 q1738 q1739 q146 q1740 pd_X8_thrown ⟨Nat.le_of_ble_eq_true rfl, Nat.le_of_ble_eq_true rfl⟩) BV_no ?_
  refine BS_iload dL_law_2309 ?_
  refine BS_icmp_eq (tgt := 2316) dL_law_2311 (by decide) ?_ ?_
  · refine BS_iload dL_law_2316 ?_
    refine BS_if_ne (tgt := 2333) dL_law_2318 (by decide) ?_ ?_
    · exact bs_L_law_b2333
    · refine BS_aload_n dL_law_2321 rfl ?_
      refine BS_iconst dL_law_2322 (by decide) ?_
      refine BS_laload dL_law_2323 ?_
      refine BS_iload dL_law_2324 ?_
      refine BS_i2l dL_law_2326 ?_
      refine BS_lcmp dL_law_2327 ?_
      refine BS_if_eq (tgt := 2333) dL_law_2328 (by decide) ?_ ?_
      · exact bs_L_law_b2333
      · refine BS_exit ?_
        refine BS_iconst dL_law_2331 (by decide) ?_
        exact BS_ireturn dL_law_2332 rfl
  · refine BS_exit ?_
    refine BS_iconst dL_law_2314 (by decide) ?_
    exact BS_ireturn dL_law_2315 rfl
noncomputable def F_L_law_b2336 : KK (L_S ⊕ OO) :=
  op_ald 1 <| op_ald 0 <| op_ild 4 <| op_push (.int 1) <| op_i2 (fun x y => x + y) <| op_iald 1 <| op_call 2 (f_kd 10 F_X1_size) kx_no <| op_ald 2 <| op_ald 0 <| op_ild 4 <| op_push (.int 1) <| op_i2 (fun x y => x + y) <| op_iald 1 <| op_call 2 (f_kd 25 F_X8_size) kx_no <| op_ceq (op_iinc 4 9 <| op_back) (op_exit <| op_push (.int 0) <| op_iret .boolean)
theorem bs_L_law_b2336 : B_S M_L_law 2336 (F_L_law_b2336) (z_L z_O) (k_L 23 k_O) := by
  unfold F_L_law_b2336
  refine BS_aload_n dL_law_2336 rfl ?_
  refine BS_aload_n dL_law_2337 rfl ?_
  refine BS_iload dL_law_2338 ?_
  refine BS_iconst dL_law_2340 (by decide) ?_
  refine BS_iadd dL_law_2341 ?_
  refine BS_iaload dL_law_2342 ?_
  refine BS_call (run_V dL_law_2343 con_X1_size (ci := 0) rfl rfl q1575 q1576 q1577 q136 q1578 pd_X1_size ⟨Nat.le_of_ble_eq_true rfl, Nat.le_of_ble_eq_true rfl⟩) BV_no ?_
  refine BS_aload_n dL_law_2346 rfl ?_
  refine BS_aload_n dL_law_2347 rfl ?_
  refine BS_iload dL_law_2348 ?_
  refine BS_iconst dL_law_2350 (by decide) ?_
  refine BS_iadd dL_law_2351 ?_
  refine BS_iaload dL_law_2352 ?_
  refine BS_call (run_V dL_law_2353 con_X8_size (ci := 15) rfl rfl q2451 q2452 q2453 q146 q2454 pd_X8_size ⟨Nat.le_of_ble_eq_true rfl, Nat.le_of_ble_eq_true rfl⟩) BV_no ?_
  refine BS_icmp_eq (tgt := 2374) dL_law_2356 (by decide) ?_ ?_
  · refine BS_iinc dL_law_2374 (by decide) (Nat.le_of_ble_eq_true rfl) ?_
    refine BS_goto (tgt := 23) dL_law_2377 (by decide) ?_
    exact BS_back
  · refine BS_exit ?_
    refine BS_iconst dL_law_2359 (by decide) ?_
    exact BS_ireturn dL_law_2360 rfl
noncomputable def F_L_law_b2361 : KK (L_S ⊕ OO) :=
  op_ald 1 <| op_call 1 (f_kd 10 F_X1_trouble) kx_no <| op_ald 2 <| op_call 1 (f_kd 25 F_X8_trouble) kx_no <| op_ceq (op_iinc 4 9 <| op_back) (op_exit <| op_push (.int 0) <| op_iret .boolean)
theorem bs_L_law_b2361 : B_S M_L_law 2361 (F_L_law_b2361) (z_L z_O) (k_L 23 k_O) := by
  unfold F_L_law_b2361
  refine BS_aload_n dL_law_2361 rfl ?_
  refine BS_call (run_V dL_law_2362 con_X1_trouble (ci := 0) rfl rfl q1579 q1580 q1581 q136 q1582 pd_X1_trouble ⟨Nat.le_of_ble_eq_true rfl, Nat.le_of_ble_eq_true rfl⟩) BV_no ?_
  refine BS_aload_n dL_law_2365 rfl ?_
  refine BS_call (run_V dL_law_2366 con_X8_trouble (ci := 15) rfl rfl q2455 q2456 q2457 q146 q2458 pd_X8_trouble ⟨Nat.le_of_ble_eq_true rfl, Nat.le_of_ble_eq_true rfl⟩) BV_no ?_
  refine BS_icmp_eq (tgt := 2374) dL_law_2369 (by decide) ?_ ?_
  · refine BS_iinc dL_law_2374 (by decide) (Nat.le_of_ble_eq_true rfl) ?_
    refine BS_goto (tgt := 23) dL_law_2377 (by decide) ?_
    exact BS_back
  · refine BS_exit ?_
    refine BS_iconst dL_law_2372 (by decide) ?_
    exact BS_ireturn dL_law_2373 rfl
noncomputable def F_L_law_l23 : KK (L_S ⊕ OO) :=
  op_ild 4 <| op_ald 0 <| op_alen <| op_push (.int 9) <| op_i2 (fun x y => x - y) <| op_cgt (op_exit <| op_push (.int 1) <| op_iret .boolean) (op_ald 0 <| op_ild 4 <| op_iald 1 <| op_push (.int 63) <| op_i2 (fun x y => x &&& y) <| op_sw [((0), F_L_law_b232), ((1), F_L_law_b305), ((2), F_L_law_b330), ((3), F_L_law_b343), ((4), F_L_law_b356), ((5), F_L_law_b393), ((6), F_L_law_b442), ((7), F_L_law_b479), ((8), F_L_law_b540), ((9), F_L_law_b655), ((10), F_L_law_b742), ((11), F_L_law_b829), ((12), F_L_law_b944), ((13), F_L_law_b1076), ((14), F_L_law_b1137), ((15), F_L_law_b1186), ((16), F_L_law_b1235), ((17), F_L_law_b1313), ((18), F_L_law_b1403), ((19), F_L_law_b1452), ((20), F_L_law_b1542), ((21), F_L_law_b1591), ((22), F_L_law_b1616), ((23), F_L_law_b1653), ((24), F_L_law_b1707), ((25), F_L_law_b1749), ((26), F_L_law_b1762), ((27), F_L_law_b1787), ((28), F_L_law_b1841), ((29), F_L_law_b1878), ((30), F_L_law_b1903), ((31), F_L_law_b1928), ((32), F_L_law_b1953), ((33), F_L_law_b2002), ((34), F_L_law_b2067), ((35), F_L_law_b2092), ((36), F_L_law_b2117), ((37), F_L_law_b2204), ((38), F_L_law_b2229), ((39), F_L_law_b2242), ((40), F_L_law_b2255), ((41), F_L_law_b2280), ((42), F_L_law_b2336), ((43), F_L_law_b2361)] (F_L_law_b2374))
theorem bs_L_law_l23 : B_S M_L_law 23 (F_L_law_l23) (z_L z_O) (k_L 23 k_O) := by
  unfold F_L_law_l23
  refine BS_iload dL_law_23 ?_
  refine BS_aload_n dL_law_25 rfl ?_
  refine BS_alen dL_law_26 ?_
  refine BS_bipush dL_law_27 (by decide) ?_
  refine BS_isub dL_law_29 ?_
  refine BS_icmp_gt (tgt := 2380) dL_law_30 (by decide) ?_ ?_
  · refine BS_exit ?_
    refine BS_iconst dL_law_2380 (by decide) ?_
    exact BS_ireturn dL_law_2381 rfl
  · refine BS_aload_n dL_law_33 rfl ?_
    refine BS_iload dL_law_34 ?_
    refine BS_iaload dL_law_36 ?_
    refine BS_bipush dL_law_37 (by decide) ?_
    refine BS_iand dL_law_39 ?_
    refine BS_tsw dL_law_40 (by decide) (td := 2374) (by decide) ?_ ?_
    · exact bs_L_law_b2374
    · exact ⟨by decide, ⟨232, by decide, by
        exact bs_L_law_b232⟩, ⟨by decide, ⟨305, by decide, by
        exact bs_L_law_b305⟩, ⟨by decide, ⟨330, by decide, by
        exact bs_L_law_b330⟩, ⟨by decide, ⟨343, by decide, by
        exact bs_L_law_b343⟩, ⟨by decide, ⟨356, by decide, by
        exact bs_L_law_b356⟩, ⟨by decide, ⟨393, by decide, by
        exact bs_L_law_b393⟩, ⟨by decide, ⟨442, by decide, by
        exact bs_L_law_b442⟩, ⟨by decide, ⟨479, by decide, by
        exact bs_L_law_b479⟩, ⟨by decide, ⟨540, by decide, by
        exact bs_L_law_b540⟩, ⟨by decide, ⟨655, by decide, by
        exact bs_L_law_b655⟩, ⟨by decide, ⟨742, by decide, by
        exact bs_L_law_b742⟩, ⟨by decide, ⟨829, by decide, by
        exact bs_L_law_b829⟩, ⟨by decide, ⟨944, by decide, by
        exact bs_L_law_b944⟩, ⟨by decide, ⟨1076, by decide, by
        exact bs_L_law_b1076⟩, ⟨by decide, ⟨1137, by decide, by
        exact bs_L_law_b1137⟩, ⟨by decide, ⟨1186, by decide, by
        exact bs_L_law_b1186⟩, ⟨by decide, ⟨1235, by decide, by
        exact bs_L_law_b1235⟩, ⟨by decide, ⟨1313, by decide, by
        exact bs_L_law_b1313⟩, ⟨by decide, ⟨1403, by decide, by
        exact bs_L_law_b1403⟩, ⟨by decide, ⟨1452, by decide, by
        exact bs_L_law_b1452⟩, ⟨by decide, ⟨1542, by decide, by
        exact bs_L_law_b1542⟩, ⟨by decide, ⟨1591, by decide, by
        exact bs_L_law_b1591⟩, ⟨by decide, ⟨1616, by decide, by
        exact bs_L_law_b1616⟩, ⟨by decide, ⟨1653, by decide, by
        exact bs_L_law_b1653⟩, ⟨by decide, ⟨1707, by decide, by
        exact bs_L_law_b1707⟩, ⟨by decide, ⟨1749, by decide, by
        exact bs_L_law_b1749⟩, ⟨by decide, ⟨1762, by decide, by
        exact bs_L_law_b1762⟩, ⟨by decide, ⟨1787, by decide, by
        exact bs_L_law_b1787⟩, ⟨by decide, ⟨1841, by decide, by
        exact bs_L_law_b1841⟩, ⟨by decide, ⟨1878, by decide, by
        exact bs_L_law_b1878⟩, ⟨by decide, ⟨1903, by decide, by
        exact bs_L_law_b1903⟩, ⟨by decide, ⟨1928, by decide, by
        exact bs_L_law_b1928⟩, ⟨by decide, ⟨1953, by decide, by
        exact bs_L_law_b1953⟩, ⟨by decide, ⟨2002, by decide, by
        exact bs_L_law_b2002⟩, ⟨by decide, ⟨2067, by decide, by
        exact bs_L_law_b2067⟩, ⟨by decide, ⟨2092, by decide, by
        exact bs_L_law_b2092⟩, ⟨by decide, ⟨2117, by decide, by
        exact bs_L_law_b2117⟩, ⟨by decide, ⟨2204, by decide, by
        exact bs_L_law_b2204⟩, ⟨by decide, ⟨2229, by decide, by
        exact bs_L_law_b2229⟩, ⟨by decide, ⟨2242, by decide, by
        exact bs_L_law_b2242⟩, ⟨by decide, ⟨2255, by decide, by
        exact bs_L_law_b2255⟩, ⟨by decide, ⟨2280, by decide, by
        exact bs_L_law_b2280⟩, ⟨by decide, ⟨2336, by decide, by
        exact bs_L_law_b2336⟩, ⟨by decide, ⟨2361, by decide, by
        exact bs_L_law_b2361⟩, trivial⟩⟩⟩⟩⟩⟩⟩⟩⟩⟩⟩⟩⟩⟩⟩⟩⟩⟩⟩⟩⟩⟩⟩⟩⟩⟩⟩⟩⟩⟩⟩⟩⟩⟩⟩⟩⟩⟩⟩⟩⟩⟩⟩⟩
noncomputable def F_L_law_b23 : KK OO := op_loop (F_L_law_l23)
theorem bs_L_law_b23 : B_S M_L_law 23 (F_L_law_b23) z_O k_O := BS_loop (bs_L_law_l23)
noncomputable def F_L_law_b0 : KK OO :=
  op_new 0 21 <| op_dup <| op_call 1 (f_rcv F_X1_init) kx_no <| op_ast 1 <| op_new 15 39 <| op_dup <| op_call 1 (f_rcv F_X8_init) kx_no <| op_ast 2 <| op_push (.int 1) <| op_newa 5 <| op_ast 3 <| op_push (.int 0) <| op_ist 4 <| F_L_law_b23
theorem bs_L_law_b0 : B_S M_L_law 0 (F_L_law_b0) z_O k_O := by
  unfold F_L_law_b0
  refine BS_new dL_law_0 (ci := 0) rfl rfl q168 q169 q136 ?_
  refine BS_dup dL_law_3 ?_
  refine BS_call (run_I dL_law_4 con_X1_init q170 q171 q136 q172 rfl pd_X1_init ⟨Nat.le_of_ble_eq_true rfl, Nat.le_of_ble_eq_true rfl⟩) BV_no ?_
  refine BS_astore_n dL_law_7 rfl (Nat.le_of_ble_eq_true rfl) ?_
  refine BS_new dL_law_8 (ci := 15) rfl rfl q1612 q1613 q146 ?_
  refine BS_dup dL_law_11 ?_
  refine BS_call (run_I dL_law_12 con_X8_init q1614 q1615 q146 q1616 rfl pd_X8_init ⟨Nat.le_of_ble_eq_true rfl, Nat.le_of_ble_eq_true rfl⟩) BV_no ?_
  refine BS_astore_n dL_law_15 rfl (Nat.le_of_ble_eq_true rfl) ?_
  refine BS_iconst dL_law_16 (by decide) ?_
  refine BS_newarray_l dL_law_17 ?_
  refine BS_astore_n dL_law_19 rfl (Nat.le_of_ble_eq_true rfl) ?_
  refine BS_iconst dL_law_20 (by decide) ?_
  refine BS_istore dL_law_21 (Nat.le_of_ble_eq_true rfl) ?_
  exact bs_L_law_b23
