/-! Rows by place, printed by tools/gen3.py. -/
set_option maxRecDepth 20000
section
variable {a0 a1 a2 a3 a4 a5 a6 a7 a8 a9 a10 a11 a12 a13 a14 a15 a16 a17 a18 a19 : V} {x y z x0 x1 x2 x3 x4 x5 x6 x7 x8 : Int} {r q r0 r1 r2 r3 r4 r5 r6 r7 r8 : Option Nat} {a b lv : Nat} {L S : List V} {h : MH} {Q : ZO → MH → Prop}
/-! RepeatFreeLaw.law([I)Z -/
theorem s335_0 : WP 335 0 0 L S h Q ↔ WP 335 0 3 L (vA (some (hn h)) :: S) (hnew h (100, 0) 9 zdf) Q := wp_pl rfl rfl rfl
theorem s335_3 : WP 335 0 3 L (vA r :: S) h Q ↔ WP 335 0 4 L (vA r :: vA r :: S) h Q := wp_pl rfl rfl rfl
theorem s335_3i : WP 335 0 3 L (vI x :: S) h Q ↔ WP 335 0 4 L (vI x :: vI x :: S) h Q := wp_pl rfl rfl rfl
theorem s335_4 : WP 335 0 4 L (vA (some a) :: S) h Q ↔ ((zNC ≤ a ∧ 100 ≤ (hk h a).1) ∧ zw S ≤ 8 ∧ WP 34 0 0 [vA (some a)] [] h (zret 335 0 4 7 L S Q)) := wp_I rfl rfl rfl (zcan_of rfl rfl) rfl rfl rfl
theorem s335_7 : WP 335 0 7 [a0, a1, a2, a3, a4, a5, a6, a7] (vA r :: S) h Q ↔ WP 335 0 8 [a0, vA r, a2, a3, a4, a5, a6, a7] S h Q := wp_astore rfl rfl rfl
theorem s335_8 : WP 335 0 8 L S h Q ↔ WP 335 0 11 L (vA (some (hn h)) :: S) (hnew h (110, 0) 32 zdf) Q := wp_pl rfl rfl rfl
theorem s335_11 : WP 335 0 11 L (vA r :: S) h Q ↔ WP 335 0 12 L (vA r :: vA r :: S) h Q := wp_pl rfl rfl rfl
theorem s335_11i : WP 335 0 11 L (vI x :: S) h Q ↔ WP 335 0 12 L (vI x :: vI x :: S) h Q := wp_pl rfl rfl rfl
theorem s335_12 : WP 335 0 12 L (vA (some a) :: S) h Q ↔ ((zNC ≤ a ∧ 100 ≤ (hk h a).1) ∧ zw S ≤ 8 ∧ WP 184 0 0 [vA (some a)] [] h (zret 335 0 12 15 L S Q)) := wp_I rfl rfl rfl (zcan_of rfl rfl) rfl rfl rfl
theorem s335_15 : WP 335 0 15 [a0, a1, a2, a3, a4, a5, a6, a7] (vA r :: S) h Q ↔ WP 335 0 16 [a0, a1, vA r, a3, a4, a5, a6, a7] S h Q := wp_astore rfl rfl rfl
theorem s335_16 : WP 335 0 16 L S h Q ↔ WP 335 0 17 L (vI 1 :: S) h Q := wp_pl rfl rfl rfl
theorem s335_17 : WP 335 0 17 L (vI x :: S) h Q ↔ ((0 ≤ x ∧ x ≤ 1000000) ∧ WP 335 0 19 L (vA (some (hn h)) :: S) (hnew h (4, x.toNat) x.toNat (fun _ => vL 0)) Q) := wp_if rfl rfl rfl
theorem s335_19 : WP 335 0 19 [a0, a1, a2, a3, a4, a5, a6, a7] (vA r :: S) h Q ↔ WP 335 0 20 [a0, a1, a2, vA r, a4, a5, a6, a7] S h Q := wp_astore rfl rfl rfl
theorem s335_20 : WP 335 0 20 L S h Q ↔ WP 335 0 21 L (vI 0 :: S) h Q := wp_pl rfl rfl rfl
theorem s335_21 : WP 335 0 21 [a0, a1, a2, a3, a4, a5, a6, a7] (vI x :: S) h Q ↔ WP 335 0 23 [a0, a1, a2, a3, vI x, a5, a6, a7] S h Q := wp_istore rfl rfl rfl
theorem s335_23 : WP 335 0 23 [a0, a1, a2, a3, vI x, a5, a6, a7] S h Q ↔ WP 335 0 25 [a0, a1, a2, a3, vI x, a5, a6, a7] (vI x :: S) h Q := wp_iload rfl rfl
theorem s335_25 : WP 335 0 25 [vA r, a1, a2, a3, a4, a5, a6, a7] S h Q ↔ WP 335 0 26 [vA r, a1, a2, a3, a4, a5, a6, a7] (vA r :: S) h Q := wp_aload rfl rfl
theorem s335_26 : WP 335 0 26 L (vA (some a) :: S) h Q ↔ ((1 ≤ (hk h a).1 ∧ (hk h a).1 ≤ 7) ∧ WP 335 0 27 L (vI ((hk h a).2 : Int) :: S) h Q) := wp_if rfl rfl rfl
theorem s335_27 : WP 335 0 27 L S h Q ↔ WP 335 0 29 L (vI 6 :: S) h Q := wp_pl rfl rfl rfl
theorem s335_29 : WP 335 0 29 L (vI y :: vI x :: S) h Q ↔ WP 335 0 30 L (vI (wr (x - y)) :: S) h Q := wp_pl rfl rfl rfl
theorem s335_30 : WP 335 0 30 L (vI y :: vI x :: S) h Q ↔ zif (y < x) (WP 335 0 2805 L S h Q) (WP 335 0 33 L S h Q) := wp_bE zc_gt rfl rfl rfl
theorem s335_33 : WP 335 0 33 [vA r, a1, a2, a3, a4, a5, a6, a7] S h Q ↔ WP 335 0 34 [vA r, a1, a2, a3, a4, a5, a6, a7] (vA r :: S) h Q := wp_aload rfl rfl
theorem s335_34 : WP 335 0 34 [a0, a1, a2, a3, vI x, a5, a6, a7] S h Q ↔ WP 335 0 36 [a0, a1, a2, a3, vI x, a5, a6, a7] (vI x :: S) h Q := wp_iload rfl rfl
theorem s335_36 : WP 335 0 36 L (vI x :: vA (some a) :: S) h Q ↔ (((hk h a).1 = 1 ∧ 0 ≤ x ∧ x < ((hk h a).2 : Int)) ∧ WP 335 0 37 L (hm h a x.toNat :: S) h Q) := wp_if rfl rfl rfl
theorem s335_37 : WP 335 0 37 L S h Q ↔ WP 335 0 39 L (vI 63 :: S) h Q := wp_pl rfl rfl rfl
theorem s335_39 : WP 335 0 39 L (vI y :: vI x :: S) h Q ↔ WP 335 0 40 L (vI (zand x y) :: S) h Q := wp_pl rfl rfl rfl
theorem s335_40 : WP 335 0 40 L (vI x :: S) h Q ↔ WP 335 0 (if 50 < x then 2799 else zsw x 0 2799 [260, 333, 358, 402, 446, 459, 484, 540, 584, 597, 610, 623, 679, 692, 717, 785, 841, 854, 922, 935, 948, 1004, 1048, 1104, 1117, 1173, 1229, 1309, 1388, 1512, 1603, 1671, 1739, 1795, 1851, 1914, 1982, 2050, 2106, 2150, 2218, 2231, 2311, 2402, 2427, 2440, 2496, 2576, 2631, 2694, 2774]) L S h Q := wp_pl rfl rfl rfl
theorem s335_260 : WP 335 0 260 [a0, vA r, a2, a3, a4, a5, a6, a7] S h Q ↔ WP 335 0 261 [a0, vA r, a2, a3, a4, a5, a6, a7] (vA r :: S) h Q := wp_aload rfl rfl
theorem s335_261 : WP 335 0 261 [vA r, a1, a2, a3, a4, a5, a6, a7] S h Q ↔ WP 335 0 262 [vA r, a1, a2, a3, a4, a5, a6, a7] (vA r :: S) h Q := wp_aload rfl rfl
theorem s335_262 : WP 335 0 262 [a0, a1, a2, a3, vI x, a5, a6, a7] S h Q ↔ WP 335 0 264 [a0, a1, a2, a3, vI x, a5, a6, a7] (vI x :: S) h Q := wp_iload rfl rfl
theorem s335_264 : WP 335 0 264 L S h Q ↔ WP 335 0 265 L (vI 1 :: S) h Q := wp_pl rfl rfl rfl
theorem s335_265 : WP 335 0 265 L (vI y :: vI x :: S) h Q ↔ WP 335 0 266 L (vI (wr (x + y)) :: S) h Q := wp_pl rfl rfl rfl
theorem s335_266 : WP 335 0 266 L (vI x :: vA (some a) :: S) h Q ↔ (((hk h a).1 = 1 ∧ 0 ≤ x ∧ x < ((hk h a).2 : Int)) ∧ WP 335 0 267 L (hm h a x.toNat :: S) h Q) := wp_if rfl rfl rfl
theorem s335_267 : WP 335 0 267 [vA r, a1, a2, a3, a4, a5, a6, a7] S h Q ↔ WP 335 0 268 [vA r, a1, a2, a3, a4, a5, a6, a7] (vA r :: S) h Q := wp_aload rfl rfl
theorem s335_268 : WP 335 0 268 [a0, a1, a2, a3, vI x, a5, a6, a7] S h Q ↔ WP 335 0 270 [a0, a1, a2, a3, vI x, a5, a6, a7] (vI x :: S) h Q := wp_iload rfl rfl
theorem s335_270 : WP 335 0 270 L S h Q ↔ WP 335 0 271 L (vI 2 :: S) h Q := wp_pl rfl rfl rfl
theorem s335_271 : WP 335 0 271 L (vI y :: vI x :: S) h Q ↔ WP 335 0 272 L (vI (wr (x + y)) :: S) h Q := wp_pl rfl rfl rfl
theorem s335_272 : WP 335 0 272 L (vI x :: vA (some a) :: S) h Q ↔ (((hk h a).1 = 1 ∧ 0 ≤ x ∧ x < ((hk h a).2 : Int)) ∧ WP 335 0 273 L (hm h a x.toNat :: S) h Q) := wp_if rfl rfl rfl
theorem s335_273 : WP 335 0 273 [vA r, a1, a2, a3, a4, a5, a6, a7] S h Q ↔ WP 335 0 274 [vA r, a1, a2, a3, a4, a5, a6, a7] (vA r :: S) h Q := wp_aload rfl rfl
theorem s335_274 : WP 335 0 274 [a0, a1, a2, a3, vI x, a5, a6, a7] S h Q ↔ WP 335 0 276 [a0, a1, a2, a3, vI x, a5, a6, a7] (vI x :: S) h Q := wp_iload rfl rfl
theorem s335_276 : WP 335 0 276 L S h Q ↔ WP 335 0 277 L (vI 3 :: S) h Q := wp_pl rfl rfl rfl
theorem s335_277 : WP 335 0 277 L (vI y :: vI x :: S) h Q ↔ WP 335 0 278 L (vI (wr (x + y)) :: S) h Q := wp_pl rfl rfl rfl
theorem s335_278 : WP 335 0 278 L (vI x :: vA (some a) :: S) h Q ↔ (((hk h a).1 = 1 ∧ 0 ≤ x ∧ x < ((hk h a).2 : Int)) ∧ WP 335 0 279 L (hm h a x.toNat :: S) h Q) := wp_if rfl rfl rfl
theorem s335_279 : WP 335 0 279 [vA r, a1, a2, a3, a4, a5, a6, a7] S h Q ↔ WP 335 0 280 [vA r, a1, a2, a3, a4, a5, a6, a7] (vA r :: S) h Q := wp_aload rfl rfl
theorem s335_280 : WP 335 0 280 [a0, a1, a2, a3, vI x, a5, a6, a7] S h Q ↔ WP 335 0 282 [a0, a1, a2, a3, vI x, a5, a6, a7] (vI x :: S) h Q := wp_iload rfl rfl
theorem s335_282 : WP 335 0 282 L S h Q ↔ WP 335 0 283 L (vI 4 :: S) h Q := wp_pl rfl rfl rfl
theorem s335_283 : WP 335 0 283 L (vI y :: vI x :: S) h Q ↔ WP 335 0 284 L (vI (wr (x + y)) :: S) h Q := wp_pl rfl rfl rfl
theorem s335_284 : WP 335 0 284 L (vI x :: vA (some a) :: S) h Q ↔ (((hk h a).1 = 1 ∧ 0 ≤ x ∧ x < ((hk h a).2 : Int)) ∧ WP 335 0 285 L (hm h a x.toNat :: S) h Q) := wp_if rfl rfl rfl
theorem s335_285 : WP 335 0 285 [vA r, a1, a2, a3, a4, a5, a6, a7] S h Q ↔ WP 335 0 286 [vA r, a1, a2, a3, a4, a5, a6, a7] (vA r :: S) h Q := wp_aload rfl rfl
theorem s335_286 : WP 335 0 286 [a0, a1, a2, a3, vI x, a5, a6, a7] S h Q ↔ WP 335 0 288 [a0, a1, a2, a3, vI x, a5, a6, a7] (vI x :: S) h Q := wp_iload rfl rfl
theorem s335_288 : WP 335 0 288 L S h Q ↔ WP 335 0 289 L (vI 5 :: S) h Q := wp_pl rfl rfl rfl
theorem s335_289 : WP 335 0 289 L (vI y :: vI x :: S) h Q ↔ WP 335 0 290 L (vI (wr (x + y)) :: S) h Q := wp_pl rfl rfl rfl
theorem s335_290 : WP 335 0 290 L (vI x :: vA (some a) :: S) h Q ↔ (((hk h a).1 = 1 ∧ 0 ≤ x ∧ x < ((hk h a).2 : Int)) ∧ WP 335 0 291 L (hm h a x.toNat :: S) h Q) := wp_if rfl rfl rfl
theorem s335_291 : WP 335 0 291 L (vI x4 :: vI x3 :: vI x2 :: vI x1 :: vI x0 :: vA (some a) :: S) h Q ↔ ((hk h a).1 = 100 ∧ (zw S ≤ 8 ∧ WP 20 0 0 [vA (some a), vI x0, vI x1, vI x2, vI x3, vI x4] [] h (zret 335 0 291 294 L S Q))) := wp_V1 (c := 100) rfl rfl (fun _ => rfl) rfl rfl (zcan_of rfl rfl) rfl rfl rfl
theorem s335_294 : WP 335 0 294 [a0, a1, vA r, a3, a4, a5, a6, a7] S h Q ↔ WP 335 0 295 [a0, a1, vA r, a3, a4, a5, a6, a7] (vA r :: S) h Q := wp_aload rfl rfl
theorem s335_295 : WP 335 0 295 [vA r, a1, a2, a3, a4, a5, a6, a7] S h Q ↔ WP 335 0 296 [vA r, a1, a2, a3, a4, a5, a6, a7] (vA r :: S) h Q := wp_aload rfl rfl
theorem s335_296 : WP 335 0 296 [a0, a1, a2, a3, vI x, a5, a6, a7] S h Q ↔ WP 335 0 298 [a0, a1, a2, a3, vI x, a5, a6, a7] (vI x :: S) h Q := wp_iload rfl rfl
theorem s335_298 : WP 335 0 298 L S h Q ↔ WP 335 0 299 L (vI 1 :: S) h Q := wp_pl rfl rfl rfl
theorem s335_299 : WP 335 0 299 L (vI y :: vI x :: S) h Q ↔ WP 335 0 300 L (vI (wr (x + y)) :: S) h Q := wp_pl rfl rfl rfl
theorem s335_300 : WP 335 0 300 L (vI x :: vA (some a) :: S) h Q ↔ (((hk h a).1 = 1 ∧ 0 ≤ x ∧ x < ((hk h a).2 : Int)) ∧ WP 335 0 301 L (hm h a x.toNat :: S) h Q) := wp_if rfl rfl rfl
theorem s335_301 : WP 335 0 301 [vA r, a1, a2, a3, a4, a5, a6, a7] S h Q ↔ WP 335 0 302 [vA r, a1, a2, a3, a4, a5, a6, a7] (vA r :: S) h Q := wp_aload rfl rfl
theorem s335_302 : WP 335 0 302 [a0, a1, a2, a3, vI x, a5, a6, a7] S h Q ↔ WP 335 0 304 [a0, a1, a2, a3, vI x, a5, a6, a7] (vI x :: S) h Q := wp_iload rfl rfl
theorem s335_304 : WP 335 0 304 L S h Q ↔ WP 335 0 305 L (vI 2 :: S) h Q := wp_pl rfl rfl rfl
theorem s335_305 : WP 335 0 305 L (vI y :: vI x :: S) h Q ↔ WP 335 0 306 L (vI (wr (x + y)) :: S) h Q := wp_pl rfl rfl rfl
theorem s335_306 : WP 335 0 306 L (vI x :: vA (some a) :: S) h Q ↔ (((hk h a).1 = 1 ∧ 0 ≤ x ∧ x < ((hk h a).2 : Int)) ∧ WP 335 0 307 L (hm h a x.toNat :: S) h Q) := wp_if rfl rfl rfl
theorem s335_307 : WP 335 0 307 [vA r, a1, a2, a3, a4, a5, a6, a7] S h Q ↔ WP 335 0 308 [vA r, a1, a2, a3, a4, a5, a6, a7] (vA r :: S) h Q := wp_aload rfl rfl
theorem s335_308 : WP 335 0 308 [a0, a1, a2, a3, vI x, a5, a6, a7] S h Q ↔ WP 335 0 310 [a0, a1, a2, a3, vI x, a5, a6, a7] (vI x :: S) h Q := wp_iload rfl rfl
theorem s335_310 : WP 335 0 310 L S h Q ↔ WP 335 0 311 L (vI 3 :: S) h Q := wp_pl rfl rfl rfl
theorem s335_311 : WP 335 0 311 L (vI y :: vI x :: S) h Q ↔ WP 335 0 312 L (vI (wr (x + y)) :: S) h Q := wp_pl rfl rfl rfl
theorem s335_312 : WP 335 0 312 L (vI x :: vA (some a) :: S) h Q ↔ (((hk h a).1 = 1 ∧ 0 ≤ x ∧ x < ((hk h a).2 : Int)) ∧ WP 335 0 313 L (hm h a x.toNat :: S) h Q) := wp_if rfl rfl rfl
theorem s335_313 : WP 335 0 313 [vA r, a1, a2, a3, a4, a5, a6, a7] S h Q ↔ WP 335 0 314 [vA r, a1, a2, a3, a4, a5, a6, a7] (vA r :: S) h Q := wp_aload rfl rfl
theorem s335_314 : WP 335 0 314 [a0, a1, a2, a3, vI x, a5, a6, a7] S h Q ↔ WP 335 0 316 [a0, a1, a2, a3, vI x, a5, a6, a7] (vI x :: S) h Q := wp_iload rfl rfl
theorem s335_316 : WP 335 0 316 L S h Q ↔ WP 335 0 317 L (vI 4 :: S) h Q := wp_pl rfl rfl rfl
theorem s335_317 : WP 335 0 317 L (vI y :: vI x :: S) h Q ↔ WP 335 0 318 L (vI (wr (x + y)) :: S) h Q := wp_pl rfl rfl rfl
theorem s335_318 : WP 335 0 318 L (vI x :: vA (some a) :: S) h Q ↔ (((hk h a).1 = 1 ∧ 0 ≤ x ∧ x < ((hk h a).2 : Int)) ∧ WP 335 0 319 L (hm h a x.toNat :: S) h Q) := wp_if rfl rfl rfl
theorem s335_319 : WP 335 0 319 [vA r, a1, a2, a3, a4, a5, a6, a7] S h Q ↔ WP 335 0 320 [vA r, a1, a2, a3, a4, a5, a6, a7] (vA r :: S) h Q := wp_aload rfl rfl
theorem s335_320 : WP 335 0 320 [a0, a1, a2, a3, vI x, a5, a6, a7] S h Q ↔ WP 335 0 322 [a0, a1, a2, a3, vI x, a5, a6, a7] (vI x :: S) h Q := wp_iload rfl rfl
theorem s335_322 : WP 335 0 322 L S h Q ↔ WP 335 0 323 L (vI 5 :: S) h Q := wp_pl rfl rfl rfl
theorem s335_323 : WP 335 0 323 L (vI y :: vI x :: S) h Q ↔ WP 335 0 324 L (vI (wr (x + y)) :: S) h Q := wp_pl rfl rfl rfl
theorem s335_324 : WP 335 0 324 L (vI x :: vA (some a) :: S) h Q ↔ (((hk h a).1 = 1 ∧ 0 ≤ x ∧ x < ((hk h a).2 : Int)) ∧ WP 335 0 325 L (hm h a x.toNat :: S) h Q) := wp_if rfl rfl rfl
theorem s335_325 : WP 335 0 325 L (vI x4 :: vI x3 :: vI x2 :: vI x1 :: vI x0 :: vA (some a) :: S) h Q ↔ ((hk h a).1 = 110 ∧ (zw S ≤ 8 ∧ WP 163 0 0 [vA (some a), vI x0, vI x1, vI x2, vI x3, vI x4, vJ] [] h (zret 335 0 325 328 L S Q))) := wp_V1 (c := 110) rfl rfl (fun _ => rfl) rfl rfl (zcan_of rfl rfl) rfl rfl rfl
theorem s335_328 : WP 335 0 328 L (vI y :: vI x :: S) h Q ↔ zif (x = y) (WP 335 0 2799 L S h Q) (WP 335 0 331 L S h Q) := wp_bE zc_eq rfl rfl rfl
theorem s335_331 : WP 335 0 331 L S h Q ↔ WP 335 0 332 L (vI 0 :: S) h Q := wp_pl rfl rfl rfl
theorem s335_332 : WP 335 0 332 L [vI x] h Q ↔ ((x = 0 ∨ x = 1) ∧ Q (.inl (some (vI x))) h) := wp_iret rfl rfl
theorem s335_333 : WP 335 0 333 [a0, vA r, a2, a3, a4, a5, a6, a7] S h Q ↔ WP 335 0 334 [a0, vA r, a2, a3, a4, a5, a6, a7] (vA r :: S) h Q := wp_aload rfl rfl
theorem s335_334 : WP 335 0 334 [vA r, a1, a2, a3, a4, a5, a6, a7] S h Q ↔ WP 335 0 335 [vA r, a1, a2, a3, a4, a5, a6, a7] (vA r :: S) h Q := wp_aload rfl rfl
theorem s335_335 : WP 335 0 335 [a0, a1, a2, a3, vI x, a5, a6, a7] S h Q ↔ WP 335 0 337 [a0, a1, a2, a3, vI x, a5, a6, a7] (vI x :: S) h Q := wp_iload rfl rfl
theorem s335_337 : WP 335 0 337 L S h Q ↔ WP 335 0 338 L (vI 1 :: S) h Q := wp_pl rfl rfl rfl
theorem s335_338 : WP 335 0 338 L (vI y :: vI x :: S) h Q ↔ WP 335 0 339 L (vI (wr (x + y)) :: S) h Q := wp_pl rfl rfl rfl
theorem s335_339 : WP 335 0 339 L (vI x :: vA (some a) :: S) h Q ↔ (((hk h a).1 = 1 ∧ 0 ≤ x ∧ x < ((hk h a).2 : Int)) ∧ WP 335 0 340 L (hm h a x.toNat :: S) h Q) := wp_if rfl rfl rfl
theorem s335_340 : WP 335 0 340 L (vI x0 :: vA (some a) :: S) h Q ↔ ((hk h a).1 = 100 ∧ (zw S ≤ 8 ∧ WP 15 0 0 [vA (some a), vI x0] [] h (zret 335 0 340 343 L S Q))) := wp_V1 (c := 100) rfl rfl (fun _ => rfl) rfl rfl (zcan_of rfl rfl) rfl rfl rfl
theorem s335_343 : WP 335 0 343 [a0, a1, vA r, a3, a4, a5, a6, a7] S h Q ↔ WP 335 0 344 [a0, a1, vA r, a3, a4, a5, a6, a7] (vA r :: S) h Q := wp_aload rfl rfl
theorem s335_344 : WP 335 0 344 [vA r, a1, a2, a3, a4, a5, a6, a7] S h Q ↔ WP 335 0 345 [vA r, a1, a2, a3, a4, a5, a6, a7] (vA r :: S) h Q := wp_aload rfl rfl
theorem s335_345 : WP 335 0 345 [a0, a1, a2, a3, vI x, a5, a6, a7] S h Q ↔ WP 335 0 347 [a0, a1, a2, a3, vI x, a5, a6, a7] (vI x :: S) h Q := wp_iload rfl rfl
theorem s335_347 : WP 335 0 347 L S h Q ↔ WP 335 0 348 L (vI 1 :: S) h Q := wp_pl rfl rfl rfl
theorem s335_348 : WP 335 0 348 L (vI y :: vI x :: S) h Q ↔ WP 335 0 349 L (vI (wr (x + y)) :: S) h Q := wp_pl rfl rfl rfl
theorem s335_349 : WP 335 0 349 L (vI x :: vA (some a) :: S) h Q ↔ (((hk h a).1 = 1 ∧ 0 ≤ x ∧ x < ((hk h a).2 : Int)) ∧ WP 335 0 350 L (hm h a x.toNat :: S) h Q) := wp_if rfl rfl rfl
theorem s335_350 : WP 335 0 350 L (vI x0 :: vA (some a) :: S) h Q ↔ ((hk h a).1 = 110 ∧ (zw S ≤ 8 ∧ WP 155 0 0 [vA (some a), vI x0] [] h (zret 335 0 350 353 L S Q))) := wp_V1 (c := 110) rfl rfl (fun _ => rfl) rfl rfl (zcan_of rfl rfl) rfl rfl rfl
theorem s335_353 : WP 335 0 353 L (vI y :: vI x :: S) h Q ↔ zif (x = y) (WP 335 0 2799 L S h Q) (WP 335 0 356 L S h Q) := wp_bE zc_eq rfl rfl rfl
theorem s335_356 : WP 335 0 356 L S h Q ↔ WP 335 0 357 L (vI 0 :: S) h Q := wp_pl rfl rfl rfl
theorem s335_357 : WP 335 0 357 L [vI x] h Q ↔ ((x = 0 ∨ x = 1) ∧ Q (.inl (some (vI x))) h) := wp_iret rfl rfl
theorem s335_358 : WP 335 0 358 [a0, vA r, a2, a3, a4, a5, a6, a7] S h Q ↔ WP 335 0 359 [a0, vA r, a2, a3, a4, a5, a6, a7] (vA r :: S) h Q := wp_aload rfl rfl
theorem s335_359 : WP 335 0 359 [a0, a1, a2, vA r, a4, a5, a6, a7] S h Q ↔ WP 335 0 360 [a0, a1, a2, vA r, a4, a5, a6, a7] (vA r :: S) h Q := wp_aload rfl rfl
theorem s335_360 : WP 335 0 360 L (vA r1 :: vA r0 :: S) h Q ↔ (zw S ≤ 8 ∧ WP 363 0 0 [vA r0, vA r1, vJ] [] h (zret 335 0 360 363 L S Q)) := wp_S rfl rfl (zcan_of rfl rfl) rfl rfl rfl
theorem s335_363 : WP 335 0 363 [a0, a1, a2, a3, a4, a5, a6, a7] (vI x :: S) h Q ↔ WP 335 0 365 [a0, a1, a2, a3, a4, vI x, a6, a7] S h Q := wp_istore rfl rfl rfl
theorem s335_365 : WP 335 0 365 [a0, a1, vA r, a3, a4, a5, a6, a7] S h Q ↔ WP 335 0 366 [a0, a1, vA r, a3, a4, a5, a6, a7] (vA r :: S) h Q := wp_aload rfl rfl
theorem s335_366 : WP 335 0 366 L (vA (some a) :: S) h Q ↔ ((hk h a).1 = 110 ∧ (zw S ≤ 8 ∧ WP 238 0 0 [vA (some a), vJ] [] h (zret 335 0 366 369 L S Q))) := wp_V1 (c := 110) rfl rfl (fun _ => rfl) rfl rfl (zcan_of rfl rfl) rfl rfl rfl
theorem s335_369 : WP 335 0 369 [a0, a1, a2, a3, a4, a5, a6, a7] (vI x :: S) h Q ↔ WP 335 0 371 [a0, a1, a2, a3, a4, a5, vI x, a7] S h Q := wp_istore rfl rfl rfl
theorem s335_371 : WP 335 0 371 [a0, a1, vA r, a3, a4, a5, a6, a7] S h Q ↔ WP 335 0 372 [a0, a1, vA r, a3, a4, a5, a6, a7] (vA r :: S) h Q := wp_aload rfl rfl
theorem s335_372 : WP 335 0 372 L (vA (some a) :: S) h Q ↔ ((hk h a).1 = 110 ∧ (zw S ≤ 8 ∧ WP 247 0 0 [vA (some a)] [] h (zret 335 0 372 375 L S Q))) := wp_V1 (c := 110) rfl rfl (fun _ => rfl) rfl rfl (zcan_of rfl rfl) rfl rfl rfl
theorem s335_375 : WP 335 0 375 [a0, a1, a2, a3, a4, vI x, a6, a7] S h Q ↔ WP 335 0 377 [a0, a1, a2, a3, a4, vI x, a6, a7] (vI x :: S) h Q := wp_iload rfl rfl
theorem s335_377 : WP 335 0 377 L (vI y :: vI x :: S) h Q ↔ zif (x = y) (WP 335 0 382 L S h Q) (WP 335 0 380 L S h Q) := wp_bE zc_eq rfl rfl rfl
theorem s335_380 : WP 335 0 380 L S h Q ↔ WP 335 0 381 L (vI 0 :: S) h Q := wp_pl rfl rfl rfl
theorem s335_381 : WP 335 0 381 L [vI x] h Q ↔ ((x = 0 ∨ x = 1) ∧ Q (.inl (some (vI x))) h) := wp_iret rfl rfl
theorem s335_382 : WP 335 0 382 [a0, a1, a2, a3, a4, vI x, a6, a7] S h Q ↔ WP 335 0 384 [a0, a1, a2, a3, a4, vI x, a6, a7] (vI x :: S) h Q := wp_iload rfl rfl
theorem s335_384 : WP 335 0 384 L (vI x :: S) h Q ↔ zif (x = 0) (WP 335 0 387 L S h Q) (WP 335 0 399 L S h Q) := wp_bN zc_eq rfl rfl rfl
theorem s335_387 : WP 335 0 387 [a0, a1, a2, vA r, a4, a5, a6, a7] S h Q ↔ WP 335 0 388 [a0, a1, a2, vA r, a4, a5, a6, a7] (vA r :: S) h Q := wp_aload rfl rfl
theorem s335_388 : WP 335 0 388 L S h Q ↔ WP 335 0 389 L (vI 0 :: S) h Q := wp_pl rfl rfl rfl
theorem s335_389 : WP 335 0 389 L (vI x :: vA (some a) :: S) h Q ↔ (((hk h a).1 = 4 ∧ 0 ≤ x ∧ x < ((hk h a).2 : Int)) ∧ WP 335 0 390 L (hm h a x.toNat :: S) h Q) := wp_if rfl rfl rfl
theorem s335_390 : WP 335 0 390 [a0, a1, a2, a3, a4, a5, vI x, a7] S h Q ↔ WP 335 0 392 [a0, a1, a2, a3, a4, a5, vI x, a7] (vI x :: S) h Q := wp_iload rfl rfl
theorem s335_392 : WP 335 0 392 L (vI x :: S) h Q ↔ WP 335 0 393 L (vL x :: S) h Q := wp_pl rfl rfl rfl
theorem s335_393 : WP 335 0 393 L (vL y :: vL x :: S) h Q ↔ WP 335 0 394 L (vI (zlc x y) :: S) h Q := wp_pl rfl rfl rfl
theorem s335_394 : WP 335 0 394 L (vI x :: S) h Q ↔ zif (x = 0) (WP 335 0 399 L S h Q) (WP 335 0 397 L S h Q) := wp_bE zc_eq rfl rfl rfl
theorem s335_397 : WP 335 0 397 L S h Q ↔ WP 335 0 398 L (vI 0 :: S) h Q := wp_pl rfl rfl rfl
theorem s335_398 : WP 335 0 398 L [vI x] h Q ↔ ((x = 0 ∨ x = 1) ∧ Q (.inl (some (vI x))) h) := wp_iret rfl rfl
theorem s335_399 : WP 335 0 399 L S h Q ↔ WP 335 0 2799 L S h Q := wp_pl rfl rfl rfl
theorem s335_402 : WP 335 0 402 [a0, vA r, a2, a3, a4, a5, a6, a7] S h Q ↔ WP 335 0 403 [a0, vA r, a2, a3, a4, a5, a6, a7] (vA r :: S) h Q := wp_aload rfl rfl
theorem s335_403 : WP 335 0 403 [a0, a1, a2, vA r, a4, a5, a6, a7] S h Q ↔ WP 335 0 404 [a0, a1, a2, vA r, a4, a5, a6, a7] (vA r :: S) h Q := wp_aload rfl rfl
theorem s335_404 : WP 335 0 404 L (vA r1 :: vA r0 :: S) h Q ↔ (zw S ≤ 8 ∧ WP 369 0 0 [vA r0, vA r1, vJ] [] h (zret 335 0 404 407 L S Q)) := wp_S rfl rfl (zcan_of rfl rfl) rfl rfl rfl
theorem s335_407 : WP 335 0 407 [a0, a1, a2, a3, a4, a5, a6, a7] (vI x :: S) h Q ↔ WP 335 0 409 [a0, a1, a2, a3, a4, vI x, a6, a7] S h Q := wp_istore rfl rfl rfl
theorem s335_409 : WP 335 0 409 [a0, a1, vA r, a3, a4, a5, a6, a7] S h Q ↔ WP 335 0 410 [a0, a1, vA r, a3, a4, a5, a6, a7] (vA r :: S) h Q := wp_aload rfl rfl
theorem s335_410 : WP 335 0 410 L (vA (some a) :: S) h Q ↔ ((hk h a).1 = 110 ∧ (zw S ≤ 8 ∧ WP 253 0 0 [vA (some a), vJ] [] h (zret 335 0 410 413 L S Q))) := wp_V1 (c := 110) rfl rfl (fun _ => rfl) rfl rfl (zcan_of rfl rfl) rfl rfl rfl
theorem s335_413 : WP 335 0 413 [a0, a1, a2, a3, a4, a5, a6, a7] (vI x :: S) h Q ↔ WP 335 0 415 [a0, a1, a2, a3, a4, a5, vI x, a7] S h Q := wp_istore rfl rfl rfl
theorem s335_415 : WP 335 0 415 [a0, a1, vA r, a3, a4, a5, a6, a7] S h Q ↔ WP 335 0 416 [a0, a1, vA r, a3, a4, a5, a6, a7] (vA r :: S) h Q := wp_aload rfl rfl
theorem s335_416 : WP 335 0 416 L (vA (some a) :: S) h Q ↔ ((hk h a).1 = 110 ∧ (zw S ≤ 8 ∧ WP 247 0 0 [vA (some a)] [] h (zret 335 0 416 419 L S Q))) := wp_V1 (c := 110) rfl rfl (fun _ => rfl) rfl rfl (zcan_of rfl rfl) rfl rfl rfl
theorem s335_419 : WP 335 0 419 [a0, a1, a2, a3, a4, vI x, a6, a7] S h Q ↔ WP 335 0 421 [a0, a1, a2, a3, a4, vI x, a6, a7] (vI x :: S) h Q := wp_iload rfl rfl
theorem s335_421 : WP 335 0 421 L (vI y :: vI x :: S) h Q ↔ zif (x = y) (WP 335 0 426 L S h Q) (WP 335 0 424 L S h Q) := wp_bE zc_eq rfl rfl rfl
theorem s335_424 : WP 335 0 424 L S h Q ↔ WP 335 0 425 L (vI 0 :: S) h Q := wp_pl rfl rfl rfl
theorem s335_425 : WP 335 0 425 L [vI x] h Q ↔ ((x = 0 ∨ x = 1) ∧ Q (.inl (some (vI x))) h) := wp_iret rfl rfl
theorem s335_426 : WP 335 0 426 [a0, a1, a2, a3, a4, vI x, a6, a7] S h Q ↔ WP 335 0 428 [a0, a1, a2, a3, a4, vI x, a6, a7] (vI x :: S) h Q := wp_iload rfl rfl
theorem s335_428 : WP 335 0 428 L (vI x :: S) h Q ↔ zif (x = 0) (WP 335 0 431 L S h Q) (WP 335 0 443 L S h Q) := wp_bN zc_eq rfl rfl rfl
theorem s335_431 : WP 335 0 431 [a0, a1, a2, vA r, a4, a5, a6, a7] S h Q ↔ WP 335 0 432 [a0, a1, a2, vA r, a4, a5, a6, a7] (vA r :: S) h Q := wp_aload rfl rfl
theorem s335_432 : WP 335 0 432 L S h Q ↔ WP 335 0 433 L (vI 0 :: S) h Q := wp_pl rfl rfl rfl
theorem s335_433 : WP 335 0 433 L (vI x :: vA (some a) :: S) h Q ↔ (((hk h a).1 = 4 ∧ 0 ≤ x ∧ x < ((hk h a).2 : Int)) ∧ WP 335 0 434 L (hm h a x.toNat :: S) h Q) := wp_if rfl rfl rfl
theorem s335_434 : WP 335 0 434 [a0, a1, a2, a3, a4, a5, vI x, a7] S h Q ↔ WP 335 0 436 [a0, a1, a2, a3, a4, a5, vI x, a7] (vI x :: S) h Q := wp_iload rfl rfl
theorem s335_436 : WP 335 0 436 L (vI x :: S) h Q ↔ WP 335 0 437 L (vL x :: S) h Q := wp_pl rfl rfl rfl
theorem s335_437 : WP 335 0 437 L (vL y :: vL x :: S) h Q ↔ WP 335 0 438 L (vI (zlc x y) :: S) h Q := wp_pl rfl rfl rfl
theorem s335_438 : WP 335 0 438 L (vI x :: S) h Q ↔ zif (x = 0) (WP 335 0 443 L S h Q) (WP 335 0 441 L S h Q) := wp_bE zc_eq rfl rfl rfl
theorem s335_441 : WP 335 0 441 L S h Q ↔ WP 335 0 442 L (vI 0 :: S) h Q := wp_pl rfl rfl rfl
theorem s335_442 : WP 335 0 442 L [vI x] h Q ↔ ((x = 0 ∨ x = 1) ∧ Q (.inl (some (vI x))) h) := wp_iret rfl rfl
theorem s335_443 : WP 335 0 443 L S h Q ↔ WP 335 0 2799 L S h Q := wp_pl rfl rfl rfl
theorem s335_446 : WP 335 0 446 [a0, vA r, a2, a3, a4, a5, a6, a7] S h Q ↔ WP 335 0 447 [a0, vA r, a2, a3, a4, a5, a6, a7] (vA r :: S) h Q := wp_aload rfl rfl
theorem s335_447 : WP 335 0 447 L (vA (some a) :: S) h Q ↔ ((hk h a).1 = 100 ∧ (zw S ≤ 8 ∧ WP 19 0 0 [vA (some a)] [] h (zret 335 0 447 450 L S Q))) := wp_V1 (c := 100) rfl rfl (fun _ => rfl) rfl rfl (zcan_of rfl rfl) rfl rfl rfl
theorem s335_450 : WP 335 0 450 [a0, a1, vA r, a3, a4, a5, a6, a7] S h Q ↔ WP 335 0 451 [a0, a1, vA r, a3, a4, a5, a6, a7] (vA r :: S) h Q := wp_aload rfl rfl
theorem s335_451 : WP 335 0 451 L (vA (some a) :: S) h Q ↔ ((hk h a).1 = 110 ∧ (zw S ≤ 8 ∧ WP 162 0 0 [vA (some a)] [] h (zret 335 0 451 454 L S Q))) := wp_V1 (c := 110) rfl rfl (fun _ => rfl) rfl rfl (zcan_of rfl rfl) rfl rfl rfl
theorem s335_454 : WP 335 0 454 L (vI y :: vI x :: S) h Q ↔ zif (x = y) (WP 335 0 2799 L S h Q) (WP 335 0 457 L S h Q) := wp_bE zc_eq rfl rfl rfl
theorem s335_457 : WP 335 0 457 L S h Q ↔ WP 335 0 458 L (vI 0 :: S) h Q := wp_pl rfl rfl rfl
theorem s335_458 : WP 335 0 458 L [vI x] h Q ↔ ((x = 0 ∨ x = 1) ∧ Q (.inl (some (vI x))) h) := wp_iret rfl rfl
theorem s335_459 : WP 335 0 459 [a0, vA r, a2, a3, a4, a5, a6, a7] S h Q ↔ WP 335 0 460 [a0, vA r, a2, a3, a4, a5, a6, a7] (vA r :: S) h Q := wp_aload rfl rfl
theorem s335_460 : WP 335 0 460 [vA r, a1, a2, a3, a4, a5, a6, a7] S h Q ↔ WP 335 0 461 [vA r, a1, a2, a3, a4, a5, a6, a7] (vA r :: S) h Q := wp_aload rfl rfl
theorem s335_461 : WP 335 0 461 [a0, a1, a2, a3, vI x, a5, a6, a7] S h Q ↔ WP 335 0 463 [a0, a1, a2, a3, vI x, a5, a6, a7] (vI x :: S) h Q := wp_iload rfl rfl
theorem s335_463 : WP 335 0 463 L S h Q ↔ WP 335 0 464 L (vI 1 :: S) h Q := wp_pl rfl rfl rfl
theorem s335_464 : WP 335 0 464 L (vI y :: vI x :: S) h Q ↔ WP 335 0 465 L (vI (wr (x + y)) :: S) h Q := wp_pl rfl rfl rfl
theorem s335_465 : WP 335 0 465 L (vI x :: vA (some a) :: S) h Q ↔ (((hk h a).1 = 1 ∧ 0 ≤ x ∧ x < ((hk h a).2 : Int)) ∧ WP 335 0 466 L (hm h a x.toNat :: S) h Q) := wp_if rfl rfl rfl
theorem s335_466 : WP 335 0 466 L (vI x0 :: vA (some a) :: S) h Q ↔ ((hk h a).1 = 100 ∧ (zw S ≤ 8 ∧ WP 51 0 0 [vA (some a), vI x0] [] h (zret 335 0 466 469 L S Q))) := wp_V1 (c := 100) rfl rfl (fun _ => rfl) rfl rfl (zcan_of rfl rfl) rfl rfl rfl
theorem s335_469 : WP 335 0 469 [a0, a1, vA r, a3, a4, a5, a6, a7] S h Q ↔ WP 335 0 470 [a0, a1, vA r, a3, a4, a5, a6, a7] (vA r :: S) h Q := wp_aload rfl rfl
theorem s335_470 : WP 335 0 470 [vA r, a1, a2, a3, a4, a5, a6, a7] S h Q ↔ WP 335 0 471 [vA r, a1, a2, a3, a4, a5, a6, a7] (vA r :: S) h Q := wp_aload rfl rfl
theorem s335_471 : WP 335 0 471 [a0, a1, a2, a3, vI x, a5, a6, a7] S h Q ↔ WP 335 0 473 [a0, a1, a2, a3, vI x, a5, a6, a7] (vI x :: S) h Q := wp_iload rfl rfl
theorem s335_473 : WP 335 0 473 L S h Q ↔ WP 335 0 474 L (vI 1 :: S) h Q := wp_pl rfl rfl rfl
theorem s335_474 : WP 335 0 474 L (vI y :: vI x :: S) h Q ↔ WP 335 0 475 L (vI (wr (x + y)) :: S) h Q := wp_pl rfl rfl rfl
theorem s335_475 : WP 335 0 475 L (vI x :: vA (some a) :: S) h Q ↔ (((hk h a).1 = 1 ∧ 0 ≤ x ∧ x < ((hk h a).2 : Int)) ∧ WP 335 0 476 L (hm h a x.toNat :: S) h Q) := wp_if rfl rfl rfl
theorem s335_476 : WP 335 0 476 L (vI x0 :: vA (some a) :: S) h Q ↔ ((hk h a).1 = 110 ∧ (zw S ≤ 8 ∧ WP 201 0 0 [vA (some a), vI x0] [] h (zret 335 0 476 479 L S Q))) := wp_V1 (c := 110) rfl rfl (fun _ => rfl) rfl rfl (zcan_of rfl rfl) rfl rfl rfl
theorem s335_479 : WP 335 0 479 L (vI y :: vI x :: S) h Q ↔ zif (x = y) (WP 335 0 2799 L S h Q) (WP 335 0 482 L S h Q) := wp_bE zc_eq rfl rfl rfl
theorem s335_482 : WP 335 0 482 L S h Q ↔ WP 335 0 483 L (vI 0 :: S) h Q := wp_pl rfl rfl rfl
theorem s335_483 : WP 335 0 483 L [vI x] h Q ↔ ((x = 0 ∨ x = 1) ∧ Q (.inl (some (vI x))) h) := wp_iret rfl rfl
theorem s335_484 : WP 335 0 484 [a0, vA r, a2, a3, a4, a5, a6, a7] S h Q ↔ WP 335 0 485 [a0, vA r, a2, a3, a4, a5, a6, a7] (vA r :: S) h Q := wp_aload rfl rfl
theorem s335_485 : WP 335 0 485 [vA r, a1, a2, a3, a4, a5, a6, a7] S h Q ↔ WP 335 0 486 [vA r, a1, a2, a3, a4, a5, a6, a7] (vA r :: S) h Q := wp_aload rfl rfl
theorem s335_486 : WP 335 0 486 [a0, a1, a2, a3, vI x, a5, a6, a7] S h Q ↔ WP 335 0 488 [a0, a1, a2, a3, vI x, a5, a6, a7] (vI x :: S) h Q := wp_iload rfl rfl
theorem s335_488 : WP 335 0 488 L S h Q ↔ WP 335 0 489 L (vI 1 :: S) h Q := wp_pl rfl rfl rfl
theorem s335_489 : WP 335 0 489 L (vI y :: vI x :: S) h Q ↔ WP 335 0 490 L (vI (wr (x + y)) :: S) h Q := wp_pl rfl rfl rfl
theorem s335_490 : WP 335 0 490 L (vI x :: vA (some a) :: S) h Q ↔ (((hk h a).1 = 1 ∧ 0 ≤ x ∧ x < ((hk h a).2 : Int)) ∧ WP 335 0 491 L (hm h a x.toNat :: S) h Q) := wp_if rfl rfl rfl
theorem s335_491 : WP 335 0 491 [a0, a1, a2, vA r, a4, a5, a6, a7] S h Q ↔ WP 335 0 492 [a0, a1, a2, vA r, a4, a5, a6, a7] (vA r :: S) h Q := wp_aload rfl rfl
theorem s335_492 : WP 335 0 492 L (vA r2 :: vI x1 :: vA r0 :: S) h Q ↔ (zw S ≤ 8 ∧ WP 361 0 0 [vA r0, vI x1, vA r2, vJ] [] h (zret 335 0 492 495 L S Q)) := wp_S rfl rfl (zcan_of rfl rfl) rfl rfl rfl
theorem s335_495 : WP 335 0 495 [a0, a1, a2, a3, a4, a5, a6, a7] (vI x :: S) h Q ↔ WP 335 0 497 [a0, a1, a2, a3, a4, vI x, a6, a7] S h Q := wp_istore rfl rfl rfl
theorem s335_497 : WP 335 0 497 [a0, a1, vA r, a3, a4, a5, a6, a7] S h Q ↔ WP 335 0 498 [a0, a1, vA r, a3, a4, a5, a6, a7] (vA r :: S) h Q := wp_aload rfl rfl
theorem s335_498 : WP 335 0 498 [vA r, a1, a2, a3, a4, a5, a6, a7] S h Q ↔ WP 335 0 499 [vA r, a1, a2, a3, a4, a5, a6, a7] (vA r :: S) h Q := wp_aload rfl rfl
theorem s335_499 : WP 335 0 499 [a0, a1, a2, a3, vI x, a5, a6, a7] S h Q ↔ WP 335 0 501 [a0, a1, a2, a3, vI x, a5, a6, a7] (vI x :: S) h Q := wp_iload rfl rfl
theorem s335_501 : WP 335 0 501 L S h Q ↔ WP 335 0 502 L (vI 1 :: S) h Q := wp_pl rfl rfl rfl
theorem s335_502 : WP 335 0 502 L (vI y :: vI x :: S) h Q ↔ WP 335 0 503 L (vI (wr (x + y)) :: S) h Q := wp_pl rfl rfl rfl
theorem s335_503 : WP 335 0 503 L (vI x :: vA (some a) :: S) h Q ↔ (((hk h a).1 = 1 ∧ 0 ≤ x ∧ x < ((hk h a).2 : Int)) ∧ WP 335 0 504 L (hm h a x.toNat :: S) h Q) := wp_if rfl rfl rfl
theorem s335_504 : WP 335 0 504 L (vI x0 :: vA (some a) :: S) h Q ↔ ((hk h a).1 = 110 ∧ (zw S ≤ 8 ∧ WP 236 0 0 [vA (some a), vI x0] [] h (zret 335 0 504 507 L S Q))) := wp_V1 (c := 110) rfl rfl (fun _ => rfl) rfl rfl (zcan_of rfl rfl) rfl rfl rfl
theorem s335_507 : WP 335 0 507 [a0, a1, a2, a3, a4, a5, a6, a7] (vI x :: S) h Q ↔ WP 335 0 509 [a0, a1, a2, a3, a4, a5, vI x, a7] S h Q := wp_istore rfl rfl rfl
theorem s335_509 : WP 335 0 509 [a0, a1, vA r, a3, a4, a5, a6, a7] S h Q ↔ WP 335 0 510 [a0, a1, vA r, a3, a4, a5, a6, a7] (vA r :: S) h Q := wp_aload rfl rfl
theorem s335_510 : WP 335 0 510 L (vA (some a) :: S) h Q ↔ ((hk h a).1 = 110 ∧ (zw S ≤ 8 ∧ WP 247 0 0 [vA (some a)] [] h (zret 335 0 510 513 L S Q))) := wp_V1 (c := 110) rfl rfl (fun _ => rfl) rfl rfl (zcan_of rfl rfl) rfl rfl rfl
theorem s335_513 : WP 335 0 513 [a0, a1, a2, a3, a4, vI x, a6, a7] S h Q ↔ WP 335 0 515 [a0, a1, a2, a3, a4, vI x, a6, a7] (vI x :: S) h Q := wp_iload rfl rfl
theorem s335_515 : WP 335 0 515 L (vI y :: vI x :: S) h Q ↔ zif (x = y) (WP 335 0 520 L S h Q) (WP 335 0 518 L S h Q) := wp_bE zc_eq rfl rfl rfl
theorem s335_518 : WP 335 0 518 L S h Q ↔ WP 335 0 519 L (vI 0 :: S) h Q := wp_pl rfl rfl rfl
theorem s335_519 : WP 335 0 519 L [vI x] h Q ↔ ((x = 0 ∨ x = 1) ∧ Q (.inl (some (vI x))) h) := wp_iret rfl rfl
theorem s335_520 : WP 335 0 520 [a0, a1, a2, a3, a4, vI x, a6, a7] S h Q ↔ WP 335 0 522 [a0, a1, a2, a3, a4, vI x, a6, a7] (vI x :: S) h Q := wp_iload rfl rfl
theorem s335_522 : WP 335 0 522 L (vI x :: S) h Q ↔ zif (x = 0) (WP 335 0 525 L S h Q) (WP 335 0 537 L S h Q) := wp_bN zc_eq rfl rfl rfl
theorem s335_525 : WP 335 0 525 [a0, a1, a2, vA r, a4, a5, a6, a7] S h Q ↔ WP 335 0 526 [a0, a1, a2, vA r, a4, a5, a6, a7] (vA r :: S) h Q := wp_aload rfl rfl
theorem s335_526 : WP 335 0 526 L S h Q ↔ WP 335 0 527 L (vI 0 :: S) h Q := wp_pl rfl rfl rfl
theorem s335_527 : WP 335 0 527 L (vI x :: vA (some a) :: S) h Q ↔ (((hk h a).1 = 4 ∧ 0 ≤ x ∧ x < ((hk h a).2 : Int)) ∧ WP 335 0 528 L (hm h a x.toNat :: S) h Q) := wp_if rfl rfl rfl
theorem s335_528 : WP 335 0 528 [a0, a1, a2, a3, a4, a5, vI x, a7] S h Q ↔ WP 335 0 530 [a0, a1, a2, a3, a4, a5, vI x, a7] (vI x :: S) h Q := wp_iload rfl rfl
theorem s335_530 : WP 335 0 530 L (vI x :: S) h Q ↔ WP 335 0 531 L (vL x :: S) h Q := wp_pl rfl rfl rfl
theorem s335_531 : WP 335 0 531 L (vL y :: vL x :: S) h Q ↔ WP 335 0 532 L (vI (zlc x y) :: S) h Q := wp_pl rfl rfl rfl
theorem s335_532 : WP 335 0 532 L (vI x :: S) h Q ↔ zif (x = 0) (WP 335 0 537 L S h Q) (WP 335 0 535 L S h Q) := wp_bE zc_eq rfl rfl rfl
theorem s335_535 : WP 335 0 535 L S h Q ↔ WP 335 0 536 L (vI 0 :: S) h Q := wp_pl rfl rfl rfl
theorem s335_536 : WP 335 0 536 L [vI x] h Q ↔ ((x = 0 ∨ x = 1) ∧ Q (.inl (some (vI x))) h) := wp_iret rfl rfl
theorem s335_537 : WP 335 0 537 L S h Q ↔ WP 335 0 2799 L S h Q := wp_pl rfl rfl rfl
theorem s335_540 : WP 335 0 540 [a0, vA r, a2, a3, a4, a5, a6, a7] S h Q ↔ WP 335 0 541 [a0, vA r, a2, a3, a4, a5, a6, a7] (vA r :: S) h Q := wp_aload rfl rfl
theorem s335_541 : WP 335 0 541 [a0, a1, a2, vA r, a4, a5, a6, a7] S h Q ↔ WP 335 0 542 [a0, a1, a2, vA r, a4, a5, a6, a7] (vA r :: S) h Q := wp_aload rfl rfl
theorem s335_542 : WP 335 0 542 L (vA r1 :: vA r0 :: S) h Q ↔ (zw S ≤ 8 ∧ WP 359 0 0 [vA r0, vA r1, vJ] [] h (zret 335 0 542 545 L S Q)) := wp_S rfl rfl (zcan_of rfl rfl) rfl rfl rfl
theorem s335_545 : WP 335 0 545 [a0, a1, a2, a3, a4, a5, a6, a7] (vI x :: S) h Q ↔ WP 335 0 547 [a0, a1, a2, a3, a4, vI x, a6, a7] S h Q := wp_istore rfl rfl rfl
theorem s335_547 : WP 335 0 547 [a0, a1, vA r, a3, a4, a5, a6, a7] S h Q ↔ WP 335 0 548 [a0, a1, vA r, a3, a4, a5, a6, a7] (vA r :: S) h Q := wp_aload rfl rfl
theorem s335_548 : WP 335 0 548 L (vA (some a) :: S) h Q ↔ ((hk h a).1 = 110 ∧ (zw S ≤ 8 ∧ WP 234 0 0 [vA (some a)] [] h (zret 335 0 548 551 L S Q))) := wp_V1 (c := 110) rfl rfl (fun _ => rfl) rfl rfl (zcan_of rfl rfl) rfl rfl rfl
theorem s335_551 : WP 335 0 551 [a0, a1, a2, a3, a4, a5, a6, a7] (vI x :: S) h Q ↔ WP 335 0 553 [a0, a1, a2, a3, a4, a5, vI x, a7] S h Q := wp_istore rfl rfl rfl
theorem s335_553 : WP 335 0 553 [a0, a1, vA r, a3, a4, a5, a6, a7] S h Q ↔ WP 335 0 554 [a0, a1, vA r, a3, a4, a5, a6, a7] (vA r :: S) h Q := wp_aload rfl rfl
theorem s335_554 : WP 335 0 554 L (vA (some a) :: S) h Q ↔ ((hk h a).1 = 110 ∧ (zw S ≤ 8 ∧ WP 247 0 0 [vA (some a)] [] h (zret 335 0 554 557 L S Q))) := wp_V1 (c := 110) rfl rfl (fun _ => rfl) rfl rfl (zcan_of rfl rfl) rfl rfl rfl
theorem s335_557 : WP 335 0 557 [a0, a1, a2, a3, a4, vI x, a6, a7] S h Q ↔ WP 335 0 559 [a0, a1, a2, a3, a4, vI x, a6, a7] (vI x :: S) h Q := wp_iload rfl rfl
theorem s335_559 : WP 335 0 559 L (vI y :: vI x :: S) h Q ↔ zif (x = y) (WP 335 0 564 L S h Q) (WP 335 0 562 L S h Q) := wp_bE zc_eq rfl rfl rfl
theorem s335_562 : WP 335 0 562 L S h Q ↔ WP 335 0 563 L (vI 0 :: S) h Q := wp_pl rfl rfl rfl
theorem s335_563 : WP 335 0 563 L [vI x] h Q ↔ ((x = 0 ∨ x = 1) ∧ Q (.inl (some (vI x))) h) := wp_iret rfl rfl
theorem s335_564 : WP 335 0 564 [a0, a1, a2, a3, a4, vI x, a6, a7] S h Q ↔ WP 335 0 566 [a0, a1, a2, a3, a4, vI x, a6, a7] (vI x :: S) h Q := wp_iload rfl rfl
theorem s335_566 : WP 335 0 566 L (vI x :: S) h Q ↔ zif (x = 0) (WP 335 0 569 L S h Q) (WP 335 0 581 L S h Q) := wp_bN zc_eq rfl rfl rfl
theorem s335_569 : WP 335 0 569 [a0, a1, a2, vA r, a4, a5, a6, a7] S h Q ↔ WP 335 0 570 [a0, a1, a2, vA r, a4, a5, a6, a7] (vA r :: S) h Q := wp_aload rfl rfl
theorem s335_570 : WP 335 0 570 L S h Q ↔ WP 335 0 571 L (vI 0 :: S) h Q := wp_pl rfl rfl rfl
theorem s335_571 : WP 335 0 571 L (vI x :: vA (some a) :: S) h Q ↔ (((hk h a).1 = 4 ∧ 0 ≤ x ∧ x < ((hk h a).2 : Int)) ∧ WP 335 0 572 L (hm h a x.toNat :: S) h Q) := wp_if rfl rfl rfl
theorem s335_572 : WP 335 0 572 [a0, a1, a2, a3, a4, a5, vI x, a7] S h Q ↔ WP 335 0 574 [a0, a1, a2, a3, a4, a5, vI x, a7] (vI x :: S) h Q := wp_iload rfl rfl
theorem s335_574 : WP 335 0 574 L (vI x :: S) h Q ↔ WP 335 0 575 L (vL x :: S) h Q := wp_pl rfl rfl rfl
theorem s335_575 : WP 335 0 575 L (vL y :: vL x :: S) h Q ↔ WP 335 0 576 L (vI (zlc x y) :: S) h Q := wp_pl rfl rfl rfl
theorem s335_576 : WP 335 0 576 L (vI x :: S) h Q ↔ zif (x = 0) (WP 335 0 581 L S h Q) (WP 335 0 579 L S h Q) := wp_bE zc_eq rfl rfl rfl
theorem s335_579 : WP 335 0 579 L S h Q ↔ WP 335 0 580 L (vI 0 :: S) h Q := wp_pl rfl rfl rfl
theorem s335_580 : WP 335 0 580 L [vI x] h Q ↔ ((x = 0 ∨ x = 1) ∧ Q (.inl (some (vI x))) h) := wp_iret rfl rfl
theorem s335_581 : WP 335 0 581 L S h Q ↔ WP 335 0 2799 L S h Q := wp_pl rfl rfl rfl
theorem s335_584 : WP 335 0 584 [a0, vA r, a2, a3, a4, a5, a6, a7] S h Q ↔ WP 335 0 585 [a0, vA r, a2, a3, a4, a5, a6, a7] (vA r :: S) h Q := wp_aload rfl rfl
theorem s335_585 : WP 335 0 585 L (vA (some a) :: S) h Q ↔ ((hk h a).1 = 100 ∧ (zw S ≤ 8 ∧ WP 88 0 0 [vA (some a)] [] h (zret 335 0 585 588 L S Q))) := wp_V1 (c := 100) rfl rfl (fun _ => rfl) rfl rfl (zcan_of rfl rfl) rfl rfl rfl
theorem s335_588 : WP 335 0 588 [a0, a1, vA r, a3, a4, a5, a6, a7] S h Q ↔ WP 335 0 589 [a0, a1, vA r, a3, a4, a5, a6, a7] (vA r :: S) h Q := wp_aload rfl rfl
theorem s335_589 : WP 335 0 589 L (vA (some a) :: S) h Q ↔ ((hk h a).1 = 110 ∧ (zw S ≤ 8 ∧ WP 250 0 0 [vA (some a), vJ, vJ] [] h (zret 335 0 589 592 L S Q))) := wp_V1 (c := 110) rfl rfl (fun _ => rfl) rfl rfl (zcan_of rfl rfl) rfl rfl rfl
theorem s335_592 : WP 335 0 592 L (vI y :: vI x :: S) h Q ↔ zif (x = y) (WP 335 0 2799 L S h Q) (WP 335 0 595 L S h Q) := wp_bE zc_eq rfl rfl rfl
theorem s335_595 : WP 335 0 595 L S h Q ↔ WP 335 0 596 L (vI 0 :: S) h Q := wp_pl rfl rfl rfl
theorem s335_596 : WP 335 0 596 L [vI x] h Q ↔ ((x = 0 ∨ x = 1) ∧ Q (.inl (some (vI x))) h) := wp_iret rfl rfl
theorem s335_597 : WP 335 0 597 [a0, vA r, a2, a3, a4, a5, a6, a7] S h Q ↔ WP 335 0 598 [a0, vA r, a2, a3, a4, a5, a6, a7] (vA r :: S) h Q := wp_aload rfl rfl
theorem s335_598 : WP 335 0 598 L (vA (some a) :: S) h Q ↔ ((hk h a).1 = 100 ∧ (zw S ≤ 8 ∧ WP 24 0 0 [vA (some a)] [] h (zret 335 0 598 601 L S Q))) := wp_V1 (c := 100) rfl rfl (fun _ => rfl) rfl rfl (zcan_of rfl rfl) rfl rfl rfl
theorem s335_601 : WP 335 0 601 [a0, a1, vA r, a3, a4, a5, a6, a7] S h Q ↔ WP 335 0 602 [a0, a1, vA r, a3, a4, a5, a6, a7] (vA r :: S) h Q := wp_aload rfl rfl
theorem s335_602 : WP 335 0 602 L (vA (some a) :: S) h Q ↔ ((hk h a).1 = 110 ∧ (zw S ≤ 8 ∧ WP 168 0 0 [vA (some a)] [] h (zret 335 0 602 605 L S Q))) := wp_V1 (c := 110) rfl rfl (fun _ => rfl) rfl rfl (zcan_of rfl rfl) rfl rfl rfl
theorem s335_605 : WP 335 0 605 L (vI y :: vI x :: S) h Q ↔ zif (x = y) (WP 335 0 2799 L S h Q) (WP 335 0 608 L S h Q) := wp_bE zc_eq rfl rfl rfl
theorem s335_608 : WP 335 0 608 L S h Q ↔ WP 335 0 609 L (vI 0 :: S) h Q := wp_pl rfl rfl rfl
theorem s335_609 : WP 335 0 609 L [vI x] h Q ↔ ((x = 0 ∨ x = 1) ∧ Q (.inl (some (vI x))) h) := wp_iret rfl rfl
theorem s335_610 : WP 335 0 610 [a0, vA r, a2, a3, a4, a5, a6, a7] S h Q ↔ WP 335 0 611 [a0, vA r, a2, a3, a4, a5, a6, a7] (vA r :: S) h Q := wp_aload rfl rfl
theorem s335_611 : WP 335 0 611 L (vA (some a) :: S) h Q ↔ ((hk h a).1 = 100 ∧ (zw S ≤ 8 ∧ WP 16 0 0 [vA (some a)] [] h (zret 335 0 611 614 L S Q))) := wp_V1 (c := 100) rfl rfl (fun _ => rfl) rfl rfl (zcan_of rfl rfl) rfl rfl rfl
theorem s335_614 : WP 335 0 614 [a0, a1, vA r, a3, a4, a5, a6, a7] S h Q ↔ WP 335 0 615 [a0, a1, vA r, a3, a4, a5, a6, a7] (vA r :: S) h Q := wp_aload rfl rfl
theorem s335_615 : WP 335 0 615 L (vA (some a) :: S) h Q ↔ ((hk h a).1 = 110 ∧ (zw S ≤ 8 ∧ WP 157 0 0 [vA (some a)] [] h (zret 335 0 615 618 L S Q))) := wp_V1 (c := 110) rfl rfl (fun _ => rfl) rfl rfl (zcan_of rfl rfl) rfl rfl rfl
theorem s335_618 : WP 335 0 618 L (vI y :: vI x :: S) h Q ↔ zif (x = y) (WP 335 0 2799 L S h Q) (WP 335 0 621 L S h Q) := wp_bE zc_eq rfl rfl rfl
theorem s335_621 : WP 335 0 621 L S h Q ↔ WP 335 0 622 L (vI 0 :: S) h Q := wp_pl rfl rfl rfl
theorem s335_622 : WP 335 0 622 L [vI x] h Q ↔ ((x = 0 ∨ x = 1) ∧ Q (.inl (some (vI x))) h) := wp_iret rfl rfl
theorem s335_623 : WP 335 0 623 [a0, vA r, a2, a3, a4, a5, a6, a7] S h Q ↔ WP 335 0 624 [a0, vA r, a2, a3, a4, a5, a6, a7] (vA r :: S) h Q := wp_aload rfl rfl
theorem s335_624 : WP 335 0 624 [vA r, a1, a2, a3, a4, a5, a6, a7] S h Q ↔ WP 335 0 625 [vA r, a1, a2, a3, a4, a5, a6, a7] (vA r :: S) h Q := wp_aload rfl rfl
theorem s335_625 : WP 335 0 625 [a0, a1, a2, a3, vI x, a5, a6, a7] S h Q ↔ WP 335 0 627 [a0, a1, a2, a3, vI x, a5, a6, a7] (vI x :: S) h Q := wp_iload rfl rfl
theorem s335_627 : WP 335 0 627 L S h Q ↔ WP 335 0 628 L (vI 1 :: S) h Q := wp_pl rfl rfl rfl
theorem s335_628 : WP 335 0 628 L (vI y :: vI x :: S) h Q ↔ WP 335 0 629 L (vI (wr (x + y)) :: S) h Q := wp_pl rfl rfl rfl
theorem s335_629 : WP 335 0 629 L (vI x :: vA (some a) :: S) h Q ↔ (((hk h a).1 = 1 ∧ 0 ≤ x ∧ x < ((hk h a).2 : Int)) ∧ WP 335 0 630 L (hm h a x.toNat :: S) h Q) := wp_if rfl rfl rfl
theorem s335_630 : WP 335 0 630 [a0, a1, a2, vA r, a4, a5, a6, a7] S h Q ↔ WP 335 0 631 [a0, a1, a2, vA r, a4, a5, a6, a7] (vA r :: S) h Q := wp_aload rfl rfl
theorem s335_631 : WP 335 0 631 L (vA r2 :: vI x1 :: vA r0 :: S) h Q ↔ (zw S ≤ 8 ∧ WP 343 0 0 [vA r0, vI x1, vA r2, vJ] [] h (zret 335 0 631 634 L S Q)) := wp_S rfl rfl (zcan_of rfl rfl) rfl rfl rfl
theorem s335_634 : WP 335 0 634 [a0, a1, a2, a3, a4, a5, a6, a7] (vI x :: S) h Q ↔ WP 335 0 636 [a0, a1, a2, a3, a4, vI x, a6, a7] S h Q := wp_istore rfl rfl rfl
theorem s335_636 : WP 335 0 636 [a0, a1, vA r, a3, a4, a5, a6, a7] S h Q ↔ WP 335 0 637 [a0, a1, vA r, a3, a4, a5, a6, a7] (vA r :: S) h Q := wp_aload rfl rfl
theorem s335_637 : WP 335 0 637 [vA r, a1, a2, a3, a4, a5, a6, a7] S h Q ↔ WP 335 0 638 [vA r, a1, a2, a3, a4, a5, a6, a7] (vA r :: S) h Q := wp_aload rfl rfl
theorem s335_638 : WP 335 0 638 [a0, a1, a2, a3, vI x, a5, a6, a7] S h Q ↔ WP 335 0 640 [a0, a1, a2, a3, vI x, a5, a6, a7] (vI x :: S) h Q := wp_iload rfl rfl
theorem s335_640 : WP 335 0 640 L S h Q ↔ WP 335 0 641 L (vI 1 :: S) h Q := wp_pl rfl rfl rfl
theorem s335_641 : WP 335 0 641 L (vI y :: vI x :: S) h Q ↔ WP 335 0 642 L (vI (wr (x + y)) :: S) h Q := wp_pl rfl rfl rfl
theorem s335_642 : WP 335 0 642 L (vI x :: vA (some a) :: S) h Q ↔ (((hk h a).1 = 1 ∧ 0 ≤ x ∧ x < ((hk h a).2 : Int)) ∧ WP 335 0 643 L (hm h a x.toNat :: S) h Q) := wp_if rfl rfl rfl
theorem s335_643 : WP 335 0 643 L (vI x0 :: vA (some a) :: S) h Q ↔ ((hk h a).1 = 110 ∧ (zw S ≤ 8 ∧ WP 174 0 0 [vA (some a), vI x0, vJ, vJ, vJ, vJ, vJ, vJ, vJ] [] h (zret 335 0 643 646 L S Q))) := wp_V1 (c := 110) rfl rfl (fun _ => rfl) rfl rfl (zcan_of rfl rfl) rfl rfl rfl
theorem s335_646 : WP 335 0 646 [a0, a1, a2, a3, a4, a5, a6, a7] (vI x :: S) h Q ↔ WP 335 0 648 [a0, a1, a2, a3, a4, a5, vI x, a7] S h Q := wp_istore rfl rfl rfl
theorem s335_648 : WP 335 0 648 [a0, a1, vA r, a3, a4, a5, a6, a7] S h Q ↔ WP 335 0 649 [a0, a1, vA r, a3, a4, a5, a6, a7] (vA r :: S) h Q := wp_aload rfl rfl
theorem s335_649 : WP 335 0 649 L (vA (some a) :: S) h Q ↔ ((hk h a).1 = 110 ∧ (zw S ≤ 8 ∧ WP 247 0 0 [vA (some a)] [] h (zret 335 0 649 652 L S Q))) := wp_V1 (c := 110) rfl rfl (fun _ => rfl) rfl rfl (zcan_of rfl rfl) rfl rfl rfl
theorem s335_652 : WP 335 0 652 [a0, a1, a2, a3, a4, vI x, a6, a7] S h Q ↔ WP 335 0 654 [a0, a1, a2, a3, a4, vI x, a6, a7] (vI x :: S) h Q := wp_iload rfl rfl
theorem s335_654 : WP 335 0 654 L (vI y :: vI x :: S) h Q ↔ zif (x = y) (WP 335 0 659 L S h Q) (WP 335 0 657 L S h Q) := wp_bE zc_eq rfl rfl rfl
theorem s335_657 : WP 335 0 657 L S h Q ↔ WP 335 0 658 L (vI 0 :: S) h Q := wp_pl rfl rfl rfl
theorem s335_658 : WP 335 0 658 L [vI x] h Q ↔ ((x = 0 ∨ x = 1) ∧ Q (.inl (some (vI x))) h) := wp_iret rfl rfl
theorem s335_659 : WP 335 0 659 [a0, a1, a2, a3, a4, vI x, a6, a7] S h Q ↔ WP 335 0 661 [a0, a1, a2, a3, a4, vI x, a6, a7] (vI x :: S) h Q := wp_iload rfl rfl
theorem s335_661 : WP 335 0 661 L (vI x :: S) h Q ↔ zif (x = 0) (WP 335 0 664 L S h Q) (WP 335 0 676 L S h Q) := wp_bN zc_eq rfl rfl rfl
theorem s335_664 : WP 335 0 664 [a0, a1, a2, vA r, a4, a5, a6, a7] S h Q ↔ WP 335 0 665 [a0, a1, a2, vA r, a4, a5, a6, a7] (vA r :: S) h Q := wp_aload rfl rfl
theorem s335_665 : WP 335 0 665 L S h Q ↔ WP 335 0 666 L (vI 0 :: S) h Q := wp_pl rfl rfl rfl
theorem s335_666 : WP 335 0 666 L (vI x :: vA (some a) :: S) h Q ↔ (((hk h a).1 = 4 ∧ 0 ≤ x ∧ x < ((hk h a).2 : Int)) ∧ WP 335 0 667 L (hm h a x.toNat :: S) h Q) := wp_if rfl rfl rfl
theorem s335_667 : WP 335 0 667 [a0, a1, a2, a3, a4, a5, vI x, a7] S h Q ↔ WP 335 0 669 [a0, a1, a2, a3, a4, a5, vI x, a7] (vI x :: S) h Q := wp_iload rfl rfl
theorem s335_669 : WP 335 0 669 L (vI x :: S) h Q ↔ WP 335 0 670 L (vL x :: S) h Q := wp_pl rfl rfl rfl
theorem s335_670 : WP 335 0 670 L (vL y :: vL x :: S) h Q ↔ WP 335 0 671 L (vI (zlc x y) :: S) h Q := wp_pl rfl rfl rfl
theorem s335_671 : WP 335 0 671 L (vI x :: S) h Q ↔ zif (x = 0) (WP 335 0 676 L S h Q) (WP 335 0 674 L S h Q) := wp_bE zc_eq rfl rfl rfl
theorem s335_674 : WP 335 0 674 L S h Q ↔ WP 335 0 675 L (vI 0 :: S) h Q := wp_pl rfl rfl rfl
theorem s335_675 : WP 335 0 675 L [vI x] h Q ↔ ((x = 0 ∨ x = 1) ∧ Q (.inl (some (vI x))) h) := wp_iret rfl rfl
theorem s335_676 : WP 335 0 676 L S h Q ↔ WP 335 0 2799 L S h Q := wp_pl rfl rfl rfl
theorem s335_679 : WP 335 0 679 [a0, vA r, a2, a3, a4, a5, a6, a7] S h Q ↔ WP 335 0 680 [a0, vA r, a2, a3, a4, a5, a6, a7] (vA r :: S) h Q := wp_aload rfl rfl
theorem s335_680 : WP 335 0 680 L (vA (some a) :: S) h Q ↔ ((hk h a).1 = 100 ∧ (zw S ≤ 8 ∧ WP 70 0 0 [vA (some a)] [] h (zret 335 0 680 683 L S Q))) := wp_V1 (c := 100) rfl rfl (fun _ => rfl) rfl rfl (zcan_of rfl rfl) rfl rfl rfl
theorem s335_683 : WP 335 0 683 [a0, a1, vA r, a3, a4, a5, a6, a7] S h Q ↔ WP 335 0 684 [a0, a1, vA r, a3, a4, a5, a6, a7] (vA r :: S) h Q := wp_aload rfl rfl
theorem s335_684 : WP 335 0 684 L (vA (some a) :: S) h Q ↔ ((hk h a).1 = 110 ∧ (zw S ≤ 8 ∧ WP 231 0 0 [vA (some a)] [] h (zret 335 0 684 687 L S Q))) := wp_V1 (c := 110) rfl rfl (fun _ => rfl) rfl rfl (zcan_of rfl rfl) rfl rfl rfl
theorem s335_687 : WP 335 0 687 L (vI y :: vI x :: S) h Q ↔ zif (x = y) (WP 335 0 2799 L S h Q) (WP 335 0 690 L S h Q) := wp_bE zc_eq rfl rfl rfl
theorem s335_690 : WP 335 0 690 L S h Q ↔ WP 335 0 691 L (vI 0 :: S) h Q := wp_pl rfl rfl rfl
theorem s335_691 : WP 335 0 691 L [vI x] h Q ↔ ((x = 0 ∨ x = 1) ∧ Q (.inl (some (vI x))) h) := wp_iret rfl rfl
theorem s335_692 : WP 335 0 692 [a0, vA r, a2, a3, a4, a5, a6, a7] S h Q ↔ WP 335 0 693 [a0, vA r, a2, a3, a4, a5, a6, a7] (vA r :: S) h Q := wp_aload rfl rfl
theorem s335_693 : WP 335 0 693 [vA r, a1, a2, a3, a4, a5, a6, a7] S h Q ↔ WP 335 0 694 [vA r, a1, a2, a3, a4, a5, a6, a7] (vA r :: S) h Q := wp_aload rfl rfl
theorem s335_694 : WP 335 0 694 [a0, a1, a2, a3, vI x, a5, a6, a7] S h Q ↔ WP 335 0 696 [a0, a1, a2, a3, vI x, a5, a6, a7] (vI x :: S) h Q := wp_iload rfl rfl
theorem s335_696 : WP 335 0 696 L S h Q ↔ WP 335 0 697 L (vI 1 :: S) h Q := wp_pl rfl rfl rfl
theorem s335_697 : WP 335 0 697 L (vI y :: vI x :: S) h Q ↔ WP 335 0 698 L (vI (wr (x + y)) :: S) h Q := wp_pl rfl rfl rfl
theorem s335_698 : WP 335 0 698 L (vI x :: vA (some a) :: S) h Q ↔ (((hk h a).1 = 1 ∧ 0 ≤ x ∧ x < ((hk h a).2 : Int)) ∧ WP 335 0 699 L (hm h a x.toNat :: S) h Q) := wp_if rfl rfl rfl
theorem s335_699 : WP 335 0 699 L (vI x0 :: vA (some a) :: S) h Q ↔ ((hk h a).1 = 100 ∧ (zw S ≤ 8 ∧ WP 6 0 0 [vA (some a), vI x0, vJ, vJ] [] h (zret 335 0 699 702 L S Q))) := wp_V1 (c := 100) rfl rfl (fun _ => rfl) rfl rfl (zcan_of rfl rfl) rfl rfl rfl
theorem s335_702 : WP 335 0 702 [a0, a1, vA r, a3, a4, a5, a6, a7] S h Q ↔ WP 335 0 703 [a0, a1, vA r, a3, a4, a5, a6, a7] (vA r :: S) h Q := wp_aload rfl rfl
theorem s335_703 : WP 335 0 703 [vA r, a1, a2, a3, a4, a5, a6, a7] S h Q ↔ WP 335 0 704 [vA r, a1, a2, a3, a4, a5, a6, a7] (vA r :: S) h Q := wp_aload rfl rfl
theorem s335_704 : WP 335 0 704 [a0, a1, a2, a3, vI x, a5, a6, a7] S h Q ↔ WP 335 0 706 [a0, a1, a2, a3, vI x, a5, a6, a7] (vI x :: S) h Q := wp_iload rfl rfl
theorem s335_706 : WP 335 0 706 L S h Q ↔ WP 335 0 707 L (vI 1 :: S) h Q := wp_pl rfl rfl rfl
theorem s335_707 : WP 335 0 707 L (vI y :: vI x :: S) h Q ↔ WP 335 0 708 L (vI (wr (x + y)) :: S) h Q := wp_pl rfl rfl rfl
theorem s335_708 : WP 335 0 708 L (vI x :: vA (some a) :: S) h Q ↔ (((hk h a).1 = 1 ∧ 0 ≤ x ∧ x < ((hk h a).2 : Int)) ∧ WP 335 0 709 L (hm h a x.toNat :: S) h Q) := wp_if rfl rfl rfl
theorem s335_709 : WP 335 0 709 L (vI x0 :: vA (some a) :: S) h Q ↔ ((hk h a).1 = 110 ∧ (zw S ≤ 8 ∧ WP 146 0 0 [vA (some a), vI x0, vJ, vJ, vJ, vJ] [] h (zret 335 0 709 712 L S Q))) := wp_V1 (c := 110) rfl rfl (fun _ => rfl) rfl rfl (zcan_of rfl rfl) rfl rfl rfl
theorem s335_712 : WP 335 0 712 L (vI y :: vI x :: S) h Q ↔ zif (x = y) (WP 335 0 2799 L S h Q) (WP 335 0 715 L S h Q) := wp_bE zc_eq rfl rfl rfl
theorem s335_715 : WP 335 0 715 L S h Q ↔ WP 335 0 716 L (vI 0 :: S) h Q := wp_pl rfl rfl rfl
theorem s335_716 : WP 335 0 716 L [vI x] h Q ↔ ((x = 0 ∨ x = 1) ∧ Q (.inl (some (vI x))) h) := wp_iret rfl rfl
theorem s335_717 : WP 335 0 717 [a0, vA r, a2, a3, a4, a5, a6, a7] S h Q ↔ WP 335 0 718 [a0, vA r, a2, a3, a4, a5, a6, a7] (vA r :: S) h Q := wp_aload rfl rfl
theorem s335_718 : WP 335 0 718 [vA r, a1, a2, a3, a4, a5, a6, a7] S h Q ↔ WP 335 0 719 [vA r, a1, a2, a3, a4, a5, a6, a7] (vA r :: S) h Q := wp_aload rfl rfl
theorem s335_719 : WP 335 0 719 [a0, a1, a2, a3, vI x, a5, a6, a7] S h Q ↔ WP 335 0 721 [a0, a1, a2, a3, vI x, a5, a6, a7] (vI x :: S) h Q := wp_iload rfl rfl
theorem s335_721 : WP 335 0 721 L S h Q ↔ WP 335 0 722 L (vI 1 :: S) h Q := wp_pl rfl rfl rfl
theorem s335_722 : WP 335 0 722 L (vI y :: vI x :: S) h Q ↔ WP 335 0 723 L (vI (wr (x + y)) :: S) h Q := wp_pl rfl rfl rfl
theorem s335_723 : WP 335 0 723 L (vI x :: vA (some a) :: S) h Q ↔ (((hk h a).1 = 1 ∧ 0 ≤ x ∧ x < ((hk h a).2 : Int)) ∧ WP 335 0 724 L (hm h a x.toNat :: S) h Q) := wp_if rfl rfl rfl
theorem s335_724 : WP 335 0 724 [vA r, a1, a2, a3, a4, a5, a6, a7] S h Q ↔ WP 335 0 725 [vA r, a1, a2, a3, a4, a5, a6, a7] (vA r :: S) h Q := wp_aload rfl rfl
theorem s335_725 : WP 335 0 725 [a0, a1, a2, a3, vI x, a5, a6, a7] S h Q ↔ WP 335 0 727 [a0, a1, a2, a3, vI x, a5, a6, a7] (vI x :: S) h Q := wp_iload rfl rfl
theorem s335_727 : WP 335 0 727 L S h Q ↔ WP 335 0 728 L (vI 2 :: S) h Q := wp_pl rfl rfl rfl
theorem s335_728 : WP 335 0 728 L (vI y :: vI x :: S) h Q ↔ WP 335 0 729 L (vI (wr (x + y)) :: S) h Q := wp_pl rfl rfl rfl
theorem s335_729 : WP 335 0 729 L (vI x :: vA (some a) :: S) h Q ↔ (((hk h a).1 = 1 ∧ 0 ≤ x ∧ x < ((hk h a).2 : Int)) ∧ WP 335 0 730 L (hm h a x.toNat :: S) h Q) := wp_if rfl rfl rfl
theorem s335_730 : WP 335 0 730 [a0, a1, a2, vA r, a4, a5, a6, a7] S h Q ↔ WP 335 0 731 [a0, a1, a2, vA r, a4, a5, a6, a7] (vA r :: S) h Q := wp_aload rfl rfl
theorem s335_731 : WP 335 0 731 L (vA r3 :: vI x2 :: vI x1 :: vA r0 :: S) h Q ↔ (zw S ≤ 8 ∧ WP 364 0 0 [vA r0, vI x1, vI x2, vA r3, vJ] [] h (zret 335 0 731 734 L S Q)) := wp_S rfl rfl (zcan_of rfl rfl) rfl rfl rfl
theorem s335_734 : WP 335 0 734 [a0, a1, a2, a3, a4, a5, a6, a7] (vI x :: S) h Q ↔ WP 335 0 736 [a0, a1, a2, a3, a4, vI x, a6, a7] S h Q := wp_istore rfl rfl rfl
theorem s335_736 : WP 335 0 736 [a0, a1, vA r, a3, a4, a5, a6, a7] S h Q ↔ WP 335 0 737 [a0, a1, vA r, a3, a4, a5, a6, a7] (vA r :: S) h Q := wp_aload rfl rfl
theorem s335_737 : WP 335 0 737 [vA r, a1, a2, a3, a4, a5, a6, a7] S h Q ↔ WP 335 0 738 [vA r, a1, a2, a3, a4, a5, a6, a7] (vA r :: S) h Q := wp_aload rfl rfl
theorem s335_738 : WP 335 0 738 [a0, a1, a2, a3, vI x, a5, a6, a7] S h Q ↔ WP 335 0 740 [a0, a1, a2, a3, vI x, a5, a6, a7] (vI x :: S) h Q := wp_iload rfl rfl
theorem s335_740 : WP 335 0 740 L S h Q ↔ WP 335 0 741 L (vI 1 :: S) h Q := wp_pl rfl rfl rfl
theorem s335_741 : WP 335 0 741 L (vI y :: vI x :: S) h Q ↔ WP 335 0 742 L (vI (wr (x + y)) :: S) h Q := wp_pl rfl rfl rfl
theorem s335_742 : WP 335 0 742 L (vI x :: vA (some a) :: S) h Q ↔ (((hk h a).1 = 1 ∧ 0 ≤ x ∧ x < ((hk h a).2 : Int)) ∧ WP 335 0 743 L (hm h a x.toNat :: S) h Q) := wp_if rfl rfl rfl
theorem s335_743 : WP 335 0 743 [vA r, a1, a2, a3, a4, a5, a6, a7] S h Q ↔ WP 335 0 744 [vA r, a1, a2, a3, a4, a5, a6, a7] (vA r :: S) h Q := wp_aload rfl rfl
theorem s335_744 : WP 335 0 744 [a0, a1, a2, a3, vI x, a5, a6, a7] S h Q ↔ WP 335 0 746 [a0, a1, a2, a3, vI x, a5, a6, a7] (vI x :: S) h Q := wp_iload rfl rfl
theorem s335_746 : WP 335 0 746 L S h Q ↔ WP 335 0 747 L (vI 2 :: S) h Q := wp_pl rfl rfl rfl
theorem s335_747 : WP 335 0 747 L (vI y :: vI x :: S) h Q ↔ WP 335 0 748 L (vI (wr (x + y)) :: S) h Q := wp_pl rfl rfl rfl
theorem s335_748 : WP 335 0 748 L (vI x :: vA (some a) :: S) h Q ↔ (((hk h a).1 = 1 ∧ 0 ≤ x ∧ x < ((hk h a).2 : Int)) ∧ WP 335 0 749 L (hm h a x.toNat :: S) h Q) := wp_if rfl rfl rfl
theorem s335_749 : WP 335 0 749 L (vI x1 :: vI x0 :: vA (some a) :: S) h Q ↔ ((hk h a).1 = 110 ∧ (zw S ≤ 8 ∧ WP 239 0 0 [vA (some a), vI x0, vI x1, vJ, vJ, vJ, vJ] [] h (zret 335 0 749 752 L S Q))) := wp_V1 (c := 110) rfl rfl (fun _ => rfl) rfl rfl (zcan_of rfl rfl) rfl rfl rfl
theorem s335_752 : WP 335 0 752 [a0, a1, a2, a3, a4, a5, a6, a7] (vI x :: S) h Q ↔ WP 335 0 754 [a0, a1, a2, a3, a4, a5, vI x, a7] S h Q := wp_istore rfl rfl rfl
theorem s335_754 : WP 335 0 754 [a0, a1, vA r, a3, a4, a5, a6, a7] S h Q ↔ WP 335 0 755 [a0, a1, vA r, a3, a4, a5, a6, a7] (vA r :: S) h Q := wp_aload rfl rfl
theorem s335_755 : WP 335 0 755 L (vA (some a) :: S) h Q ↔ ((hk h a).1 = 110 ∧ (zw S ≤ 8 ∧ WP 247 0 0 [vA (some a)] [] h (zret 335 0 755 758 L S Q))) := wp_V1 (c := 110) rfl rfl (fun _ => rfl) rfl rfl (zcan_of rfl rfl) rfl rfl rfl
theorem s335_758 : WP 335 0 758 [a0, a1, a2, a3, a4, vI x, a6, a7] S h Q ↔ WP 335 0 760 [a0, a1, a2, a3, a4, vI x, a6, a7] (vI x :: S) h Q := wp_iload rfl rfl
theorem s335_760 : WP 335 0 760 L (vI y :: vI x :: S) h Q ↔ zif (x = y) (WP 335 0 765 L S h Q) (WP 335 0 763 L S h Q) := wp_bE zc_eq rfl rfl rfl
theorem s335_763 : WP 335 0 763 L S h Q ↔ WP 335 0 764 L (vI 0 :: S) h Q := wp_pl rfl rfl rfl
theorem s335_764 : WP 335 0 764 L [vI x] h Q ↔ ((x = 0 ∨ x = 1) ∧ Q (.inl (some (vI x))) h) := wp_iret rfl rfl
theorem s335_765 : WP 335 0 765 [a0, a1, a2, a3, a4, vI x, a6, a7] S h Q ↔ WP 335 0 767 [a0, a1, a2, a3, a4, vI x, a6, a7] (vI x :: S) h Q := wp_iload rfl rfl
theorem s335_767 : WP 335 0 767 L (vI x :: S) h Q ↔ zif (x = 0) (WP 335 0 770 L S h Q) (WP 335 0 782 L S h Q) := wp_bN zc_eq rfl rfl rfl
theorem s335_770 : WP 335 0 770 [a0, a1, a2, vA r, a4, a5, a6, a7] S h Q ↔ WP 335 0 771 [a0, a1, a2, vA r, a4, a5, a6, a7] (vA r :: S) h Q := wp_aload rfl rfl
theorem s335_771 : WP 335 0 771 L S h Q ↔ WP 335 0 772 L (vI 0 :: S) h Q := wp_pl rfl rfl rfl
theorem s335_772 : WP 335 0 772 L (vI x :: vA (some a) :: S) h Q ↔ (((hk h a).1 = 4 ∧ 0 ≤ x ∧ x < ((hk h a).2 : Int)) ∧ WP 335 0 773 L (hm h a x.toNat :: S) h Q) := wp_if rfl rfl rfl
theorem s335_773 : WP 335 0 773 [a0, a1, a2, a3, a4, a5, vI x, a7] S h Q ↔ WP 335 0 775 [a0, a1, a2, a3, a4, a5, vI x, a7] (vI x :: S) h Q := wp_iload rfl rfl
theorem s335_775 : WP 335 0 775 L (vI x :: S) h Q ↔ WP 335 0 776 L (vL x :: S) h Q := wp_pl rfl rfl rfl
theorem s335_776 : WP 335 0 776 L (vL y :: vL x :: S) h Q ↔ WP 335 0 777 L (vI (zlc x y) :: S) h Q := wp_pl rfl rfl rfl
theorem s335_777 : WP 335 0 777 L (vI x :: S) h Q ↔ zif (x = 0) (WP 335 0 782 L S h Q) (WP 335 0 780 L S h Q) := wp_bE zc_eq rfl rfl rfl
theorem s335_780 : WP 335 0 780 L S h Q ↔ WP 335 0 781 L (vI 0 :: S) h Q := wp_pl rfl rfl rfl
theorem s335_781 : WP 335 0 781 L [vI x] h Q ↔ ((x = 0 ∨ x = 1) ∧ Q (.inl (some (vI x))) h) := wp_iret rfl rfl
theorem s335_782 : WP 335 0 782 L S h Q ↔ WP 335 0 2799 L S h Q := wp_pl rfl rfl rfl
theorem s335_785 : WP 335 0 785 [a0, vA r, a2, a3, a4, a5, a6, a7] S h Q ↔ WP 335 0 786 [a0, vA r, a2, a3, a4, a5, a6, a7] (vA r :: S) h Q := wp_aload rfl rfl
theorem s335_786 : WP 335 0 786 [vA r, a1, a2, a3, a4, a5, a6, a7] S h Q ↔ WP 335 0 787 [vA r, a1, a2, a3, a4, a5, a6, a7] (vA r :: S) h Q := wp_aload rfl rfl
theorem s335_787 : WP 335 0 787 [a0, a1, a2, a3, vI x, a5, a6, a7] S h Q ↔ WP 335 0 789 [a0, a1, a2, a3, vI x, a5, a6, a7] (vI x :: S) h Q := wp_iload rfl rfl
theorem s335_789 : WP 335 0 789 L S h Q ↔ WP 335 0 790 L (vI 1 :: S) h Q := wp_pl rfl rfl rfl
theorem s335_790 : WP 335 0 790 L (vI y :: vI x :: S) h Q ↔ WP 335 0 791 L (vI (wr (x + y)) :: S) h Q := wp_pl rfl rfl rfl
theorem s335_791 : WP 335 0 791 L (vI x :: vA (some a) :: S) h Q ↔ (((hk h a).1 = 1 ∧ 0 ≤ x ∧ x < ((hk h a).2 : Int)) ∧ WP 335 0 792 L (hm h a x.toNat :: S) h Q) := wp_if rfl rfl rfl
theorem s335_792 : WP 335 0 792 [a0, a1, a2, vA r, a4, a5, a6, a7] S h Q ↔ WP 335 0 793 [a0, a1, a2, vA r, a4, a5, a6, a7] (vA r :: S) h Q := wp_aload rfl rfl
theorem s335_793 : WP 335 0 793 L (vA r2 :: vI x1 :: vA r0 :: S) h Q ↔ (zw S ≤ 8 ∧ WP 340 0 0 [vA r0, vI x1, vA r2, vJ] [] h (zret 335 0 793 796 L S Q)) := wp_S rfl rfl (zcan_of rfl rfl) rfl rfl rfl
theorem s335_796 : WP 335 0 796 [a0, a1, a2, a3, a4, a5, a6, a7] (vI x :: S) h Q ↔ WP 335 0 798 [a0, a1, a2, a3, a4, vI x, a6, a7] S h Q := wp_istore rfl rfl rfl
theorem s335_798 : WP 335 0 798 [a0, a1, vA r, a3, a4, a5, a6, a7] S h Q ↔ WP 335 0 799 [a0, a1, vA r, a3, a4, a5, a6, a7] (vA r :: S) h Q := wp_aload rfl rfl
theorem s335_799 : WP 335 0 799 [vA r, a1, a2, a3, a4, a5, a6, a7] S h Q ↔ WP 335 0 800 [vA r, a1, a2, a3, a4, a5, a6, a7] (vA r :: S) h Q := wp_aload rfl rfl
theorem s335_800 : WP 335 0 800 [a0, a1, a2, a3, vI x, a5, a6, a7] S h Q ↔ WP 335 0 802 [a0, a1, a2, a3, vI x, a5, a6, a7] (vI x :: S) h Q := wp_iload rfl rfl
theorem s335_802 : WP 335 0 802 L S h Q ↔ WP 335 0 803 L (vI 1 :: S) h Q := wp_pl rfl rfl rfl
theorem s335_803 : WP 335 0 803 L (vI y :: vI x :: S) h Q ↔ WP 335 0 804 L (vI (wr (x + y)) :: S) h Q := wp_pl rfl rfl rfl
theorem s335_804 : WP 335 0 804 L (vI x :: vA (some a) :: S) h Q ↔ (((hk h a).1 = 1 ∧ 0 ≤ x ∧ x < ((hk h a).2 : Int)) ∧ WP 335 0 805 L (hm h a x.toNat :: S) h Q) := wp_if rfl rfl rfl
theorem s335_805 : WP 335 0 805 L (vI x0 :: vA (some a) :: S) h Q ↔ ((hk h a).1 = 110 ∧ (zw S ≤ 8 ∧ WP 160 0 0 [vA (some a), vI x0, vJ, vJ, vJ, vJ] [] h (zret 335 0 805 808 L S Q))) := wp_V1 (c := 110) rfl rfl (fun _ => rfl) rfl rfl (zcan_of rfl rfl) rfl rfl rfl
theorem s335_808 : WP 335 0 808 [a0, a1, a2, a3, a4, a5, a6, a7] (vI x :: S) h Q ↔ WP 335 0 810 [a0, a1, a2, a3, a4, a5, vI x, a7] S h Q := wp_istore rfl rfl rfl
theorem s335_810 : WP 335 0 810 [a0, a1, vA r, a3, a4, a5, a6, a7] S h Q ↔ WP 335 0 811 [a0, a1, vA r, a3, a4, a5, a6, a7] (vA r :: S) h Q := wp_aload rfl rfl
theorem s335_811 : WP 335 0 811 L (vA (some a) :: S) h Q ↔ ((hk h a).1 = 110 ∧ (zw S ≤ 8 ∧ WP 247 0 0 [vA (some a)] [] h (zret 335 0 811 814 L S Q))) := wp_V1 (c := 110) rfl rfl (fun _ => rfl) rfl rfl (zcan_of rfl rfl) rfl rfl rfl
theorem s335_814 : WP 335 0 814 [a0, a1, a2, a3, a4, vI x, a6, a7] S h Q ↔ WP 335 0 816 [a0, a1, a2, a3, a4, vI x, a6, a7] (vI x :: S) h Q := wp_iload rfl rfl
theorem s335_816 : WP 335 0 816 L (vI y :: vI x :: S) h Q ↔ zif (x = y) (WP 335 0 821 L S h Q) (WP 335 0 819 L S h Q) := wp_bE zc_eq rfl rfl rfl
theorem s335_819 : WP 335 0 819 L S h Q ↔ WP 335 0 820 L (vI 0 :: S) h Q := wp_pl rfl rfl rfl
theorem s335_820 : WP 335 0 820 L [vI x] h Q ↔ ((x = 0 ∨ x = 1) ∧ Q (.inl (some (vI x))) h) := wp_iret rfl rfl
theorem s335_821 : WP 335 0 821 [a0, a1, a2, a3, a4, vI x, a6, a7] S h Q ↔ WP 335 0 823 [a0, a1, a2, a3, a4, vI x, a6, a7] (vI x :: S) h Q := wp_iload rfl rfl
theorem s335_823 : WP 335 0 823 L (vI x :: S) h Q ↔ zif (x = 0) (WP 335 0 826 L S h Q) (WP 335 0 838 L S h Q) := wp_bN zc_eq rfl rfl rfl
theorem s335_826 : WP 335 0 826 [a0, a1, a2, vA r, a4, a5, a6, a7] S h Q ↔ WP 335 0 827 [a0, a1, a2, vA r, a4, a5, a6, a7] (vA r :: S) h Q := wp_aload rfl rfl
theorem s335_827 : WP 335 0 827 L S h Q ↔ WP 335 0 828 L (vI 0 :: S) h Q := wp_pl rfl rfl rfl
theorem s335_828 : WP 335 0 828 L (vI x :: vA (some a) :: S) h Q ↔ (((hk h a).1 = 4 ∧ 0 ≤ x ∧ x < ((hk h a).2 : Int)) ∧ WP 335 0 829 L (hm h a x.toNat :: S) h Q) := wp_if rfl rfl rfl
theorem s335_829 : WP 335 0 829 [a0, a1, a2, a3, a4, a5, vI x, a7] S h Q ↔ WP 335 0 831 [a0, a1, a2, a3, a4, a5, vI x, a7] (vI x :: S) h Q := wp_iload rfl rfl
theorem s335_831 : WP 335 0 831 L (vI x :: S) h Q ↔ WP 335 0 832 L (vL x :: S) h Q := wp_pl rfl rfl rfl
theorem s335_832 : WP 335 0 832 L (vL y :: vL x :: S) h Q ↔ WP 335 0 833 L (vI (zlc x y) :: S) h Q := wp_pl rfl rfl rfl
theorem s335_833 : WP 335 0 833 L (vI x :: S) h Q ↔ zif (x = 0) (WP 335 0 838 L S h Q) (WP 335 0 836 L S h Q) := wp_bE zc_eq rfl rfl rfl
theorem s335_836 : WP 335 0 836 L S h Q ↔ WP 335 0 837 L (vI 0 :: S) h Q := wp_pl rfl rfl rfl
theorem s335_837 : WP 335 0 837 L [vI x] h Q ↔ ((x = 0 ∨ x = 1) ∧ Q (.inl (some (vI x))) h) := wp_iret rfl rfl
theorem s335_838 : WP 335 0 838 L S h Q ↔ WP 335 0 2799 L S h Q := wp_pl rfl rfl rfl
theorem s335_841 : WP 335 0 841 [a0, vA r, a2, a3, a4, a5, a6, a7] S h Q ↔ WP 335 0 842 [a0, vA r, a2, a3, a4, a5, a6, a7] (vA r :: S) h Q := wp_aload rfl rfl
theorem s335_842 : WP 335 0 842 L (vA (some a) :: S) h Q ↔ ((hk h a).1 = 100 ∧ (zw S ≤ 8 ∧ WP 61 0 0 [vA (some a), vJ, vJ] [] h (zret 335 0 842 845 L S Q))) := wp_V1 (c := 100) rfl rfl (fun _ => rfl) rfl rfl (zcan_of rfl rfl) rfl rfl rfl
theorem s335_845 : WP 335 0 845 [a0, a1, vA r, a3, a4, a5, a6, a7] S h Q ↔ WP 335 0 846 [a0, a1, vA r, a3, a4, a5, a6, a7] (vA r :: S) h Q := wp_aload rfl rfl
theorem s335_846 : WP 335 0 846 L (vA (some a) :: S) h Q ↔ ((hk h a).1 = 110 ∧ (zw S ≤ 8 ∧ WP 218 0 0 [vA (some a), vJ, vJ, vJ, vJ] [] h (zret 335 0 846 849 L S Q))) := wp_V1 (c := 110) rfl rfl (fun _ => rfl) rfl rfl (zcan_of rfl rfl) rfl rfl rfl
theorem s335_849 : WP 335 0 849 L (vI y :: vI x :: S) h Q ↔ zif (x = y) (WP 335 0 2799 L S h Q) (WP 335 0 852 L S h Q) := wp_bE zc_eq rfl rfl rfl
theorem s335_852 : WP 335 0 852 L S h Q ↔ WP 335 0 853 L (vI 0 :: S) h Q := wp_pl rfl rfl rfl
theorem s335_853 : WP 335 0 853 L [vI x] h Q ↔ ((x = 0 ∨ x = 1) ∧ Q (.inl (some (vI x))) h) := wp_iret rfl rfl
theorem s335_854 : WP 335 0 854 [a0, vA r, a2, a3, a4, a5, a6, a7] S h Q ↔ WP 335 0 855 [a0, vA r, a2, a3, a4, a5, a6, a7] (vA r :: S) h Q := wp_aload rfl rfl
theorem s335_855 : WP 335 0 855 [vA r, a1, a2, a3, a4, a5, a6, a7] S h Q ↔ WP 335 0 856 [vA r, a1, a2, a3, a4, a5, a6, a7] (vA r :: S) h Q := wp_aload rfl rfl
theorem s335_856 : WP 335 0 856 [a0, a1, a2, a3, vI x, a5, a6, a7] S h Q ↔ WP 335 0 858 [a0, a1, a2, a3, vI x, a5, a6, a7] (vI x :: S) h Q := wp_iload rfl rfl
theorem s335_858 : WP 335 0 858 L S h Q ↔ WP 335 0 859 L (vI 1 :: S) h Q := wp_pl rfl rfl rfl
theorem s335_859 : WP 335 0 859 L (vI y :: vI x :: S) h Q ↔ WP 335 0 860 L (vI (wr (x + y)) :: S) h Q := wp_pl rfl rfl rfl
theorem s335_860 : WP 335 0 860 L (vI x :: vA (some a) :: S) h Q ↔ (((hk h a).1 = 1 ∧ 0 ≤ x ∧ x < ((hk h a).2 : Int)) ∧ WP 335 0 861 L (hm h a x.toNat :: S) h Q) := wp_if rfl rfl rfl
theorem s335_861 : WP 335 0 861 [vA r, a1, a2, a3, a4, a5, a6, a7] S h Q ↔ WP 335 0 862 [vA r, a1, a2, a3, a4, a5, a6, a7] (vA r :: S) h Q := wp_aload rfl rfl
theorem s335_862 : WP 335 0 862 [a0, a1, a2, a3, vI x, a5, a6, a7] S h Q ↔ WP 335 0 864 [a0, a1, a2, a3, vI x, a5, a6, a7] (vI x :: S) h Q := wp_iload rfl rfl
theorem s335_864 : WP 335 0 864 L S h Q ↔ WP 335 0 865 L (vI 2 :: S) h Q := wp_pl rfl rfl rfl
theorem s335_865 : WP 335 0 865 L (vI y :: vI x :: S) h Q ↔ WP 335 0 866 L (vI (wr (x + y)) :: S) h Q := wp_pl rfl rfl rfl
theorem s335_866 : WP 335 0 866 L (vI x :: vA (some a) :: S) h Q ↔ (((hk h a).1 = 1 ∧ 0 ≤ x ∧ x < ((hk h a).2 : Int)) ∧ WP 335 0 867 L (hm h a x.toNat :: S) h Q) := wp_if rfl rfl rfl
theorem s335_867 : WP 335 0 867 [a0, a1, a2, vA r, a4, a5, a6, a7] S h Q ↔ WP 335 0 868 [a0, a1, a2, vA r, a4, a5, a6, a7] (vA r :: S) h Q := wp_aload rfl rfl
theorem s335_868 : WP 335 0 868 L (vA r3 :: vI x2 :: vI x1 :: vA r0 :: S) h Q ↔ (zw S ≤ 8 ∧ WP 354 0 0 [vA r0, vI x1, vI x2, vA r3, vJ] [] h (zret 335 0 868 871 L S Q)) := wp_S rfl rfl (zcan_of rfl rfl) rfl rfl rfl
theorem s335_871 : WP 335 0 871 [a0, a1, a2, a3, a4, a5, a6, a7] (vI x :: S) h Q ↔ WP 335 0 873 [a0, a1, a2, a3, a4, vI x, a6, a7] S h Q := wp_istore rfl rfl rfl
theorem s335_873 : WP 335 0 873 [a0, a1, vA r, a3, a4, a5, a6, a7] S h Q ↔ WP 335 0 874 [a0, a1, vA r, a3, a4, a5, a6, a7] (vA r :: S) h Q := wp_aload rfl rfl
theorem s335_874 : WP 335 0 874 [vA r, a1, a2, a3, a4, a5, a6, a7] S h Q ↔ WP 335 0 875 [vA r, a1, a2, a3, a4, a5, a6, a7] (vA r :: S) h Q := wp_aload rfl rfl
theorem s335_875 : WP 335 0 875 [a0, a1, a2, a3, vI x, a5, a6, a7] S h Q ↔ WP 335 0 877 [a0, a1, a2, a3, vI x, a5, a6, a7] (vI x :: S) h Q := wp_iload rfl rfl
theorem s335_877 : WP 335 0 877 L S h Q ↔ WP 335 0 878 L (vI 1 :: S) h Q := wp_pl rfl rfl rfl
theorem s335_878 : WP 335 0 878 L (vI y :: vI x :: S) h Q ↔ WP 335 0 879 L (vI (wr (x + y)) :: S) h Q := wp_pl rfl rfl rfl
theorem s335_879 : WP 335 0 879 L (vI x :: vA (some a) :: S) h Q ↔ (((hk h a).1 = 1 ∧ 0 ≤ x ∧ x < ((hk h a).2 : Int)) ∧ WP 335 0 880 L (hm h a x.toNat :: S) h Q) := wp_if rfl rfl rfl
theorem s335_880 : WP 335 0 880 [vA r, a1, a2, a3, a4, a5, a6, a7] S h Q ↔ WP 335 0 881 [vA r, a1, a2, a3, a4, a5, a6, a7] (vA r :: S) h Q := wp_aload rfl rfl
theorem s335_881 : WP 335 0 881 [a0, a1, a2, a3, vI x, a5, a6, a7] S h Q ↔ WP 335 0 883 [a0, a1, a2, a3, vI x, a5, a6, a7] (vI x :: S) h Q := wp_iload rfl rfl
theorem s335_883 : WP 335 0 883 L S h Q ↔ WP 335 0 884 L (vI 2 :: S) h Q := wp_pl rfl rfl rfl
theorem s335_884 : WP 335 0 884 L (vI y :: vI x :: S) h Q ↔ WP 335 0 885 L (vI (wr (x + y)) :: S) h Q := wp_pl rfl rfl rfl
theorem s335_885 : WP 335 0 885 L (vI x :: vA (some a) :: S) h Q ↔ (((hk h a).1 = 1 ∧ 0 ≤ x ∧ x < ((hk h a).2 : Int)) ∧ WP 335 0 886 L (hm h a x.toNat :: S) h Q) := wp_if rfl rfl rfl
theorem s335_886 : WP 335 0 886 L (vI x1 :: vI x0 :: vA (some a) :: S) h Q ↔ ((hk h a).1 = 110 ∧ (zw S ≤ 8 ∧ WP 217 0 0 [vA (some a), vI x0, vI x1, vJ, vJ] [] h (zret 335 0 886 889 L S Q))) := wp_V1 (c := 110) rfl rfl (fun _ => rfl) rfl rfl (zcan_of rfl rfl) rfl rfl rfl
theorem s335_889 : WP 335 0 889 [a0, a1, a2, a3, a4, a5, a6, a7] (vI x :: S) h Q ↔ WP 335 0 891 [a0, a1, a2, a3, a4, a5, vI x, a7] S h Q := wp_istore rfl rfl rfl
theorem s335_891 : WP 335 0 891 [a0, a1, vA r, a3, a4, a5, a6, a7] S h Q ↔ WP 335 0 892 [a0, a1, vA r, a3, a4, a5, a6, a7] (vA r :: S) h Q := wp_aload rfl rfl
theorem s335_892 : WP 335 0 892 L (vA (some a) :: S) h Q ↔ ((hk h a).1 = 110 ∧ (zw S ≤ 8 ∧ WP 247 0 0 [vA (some a)] [] h (zret 335 0 892 895 L S Q))) := wp_V1 (c := 110) rfl rfl (fun _ => rfl) rfl rfl (zcan_of rfl rfl) rfl rfl rfl
theorem s335_895 : WP 335 0 895 [a0, a1, a2, a3, a4, vI x, a6, a7] S h Q ↔ WP 335 0 897 [a0, a1, a2, a3, a4, vI x, a6, a7] (vI x :: S) h Q := wp_iload rfl rfl
theorem s335_897 : WP 335 0 897 L (vI y :: vI x :: S) h Q ↔ zif (x = y) (WP 335 0 902 L S h Q) (WP 335 0 900 L S h Q) := wp_bE zc_eq rfl rfl rfl
theorem s335_900 : WP 335 0 900 L S h Q ↔ WP 335 0 901 L (vI 0 :: S) h Q := wp_pl rfl rfl rfl
theorem s335_901 : WP 335 0 901 L [vI x] h Q ↔ ((x = 0 ∨ x = 1) ∧ Q (.inl (some (vI x))) h) := wp_iret rfl rfl
theorem s335_902 : WP 335 0 902 [a0, a1, a2, a3, a4, vI x, a6, a7] S h Q ↔ WP 335 0 904 [a0, a1, a2, a3, a4, vI x, a6, a7] (vI x :: S) h Q := wp_iload rfl rfl
theorem s335_904 : WP 335 0 904 L (vI x :: S) h Q ↔ zif (x = 0) (WP 335 0 907 L S h Q) (WP 335 0 919 L S h Q) := wp_bN zc_eq rfl rfl rfl
theorem s335_907 : WP 335 0 907 [a0, a1, a2, vA r, a4, a5, a6, a7] S h Q ↔ WP 335 0 908 [a0, a1, a2, vA r, a4, a5, a6, a7] (vA r :: S) h Q := wp_aload rfl rfl
theorem s335_908 : WP 335 0 908 L S h Q ↔ WP 335 0 909 L (vI 0 :: S) h Q := wp_pl rfl rfl rfl
theorem s335_909 : WP 335 0 909 L (vI x :: vA (some a) :: S) h Q ↔ (((hk h a).1 = 4 ∧ 0 ≤ x ∧ x < ((hk h a).2 : Int)) ∧ WP 335 0 910 L (hm h a x.toNat :: S) h Q) := wp_if rfl rfl rfl
theorem s335_910 : WP 335 0 910 [a0, a1, a2, a3, a4, a5, vI x, a7] S h Q ↔ WP 335 0 912 [a0, a1, a2, a3, a4, a5, vI x, a7] (vI x :: S) h Q := wp_iload rfl rfl
theorem s335_912 : WP 335 0 912 L (vI x :: S) h Q ↔ WP 335 0 913 L (vL x :: S) h Q := wp_pl rfl rfl rfl
theorem s335_913 : WP 335 0 913 L (vL y :: vL x :: S) h Q ↔ WP 335 0 914 L (vI (zlc x y) :: S) h Q := wp_pl rfl rfl rfl
theorem s335_914 : WP 335 0 914 L (vI x :: S) h Q ↔ zif (x = 0) (WP 335 0 919 L S h Q) (WP 335 0 917 L S h Q) := wp_bE zc_eq rfl rfl rfl
theorem s335_917 : WP 335 0 917 L S h Q ↔ WP 335 0 918 L (vI 0 :: S) h Q := wp_pl rfl rfl rfl
theorem s335_918 : WP 335 0 918 L [vI x] h Q ↔ ((x = 0 ∨ x = 1) ∧ Q (.inl (some (vI x))) h) := wp_iret rfl rfl
theorem s335_919 : WP 335 0 919 L S h Q ↔ WP 335 0 2799 L S h Q := wp_pl rfl rfl rfl
theorem s335_922 : WP 335 0 922 [a0, vA r, a2, a3, a4, a5, a6, a7] S h Q ↔ WP 335 0 923 [a0, vA r, a2, a3, a4, a5, a6, a7] (vA r :: S) h Q := wp_aload rfl rfl
theorem s335_923 : WP 335 0 923 L (vA (some a) :: S) h Q ↔ ((hk h a).1 = 100 ∧ (zw S ≤ 8 ∧ WP 26 0 0 [vA (some a), vJ, vJ, vJ, vJ] [] h (zret 335 0 923 926 L S Q))) := wp_V1 (c := 100) rfl rfl (fun _ => rfl) rfl rfl (zcan_of rfl rfl) rfl rfl rfl
theorem s335_926 : WP 335 0 926 [a0, a1, vA r, a3, a4, a5, a6, a7] S h Q ↔ WP 335 0 927 [a0, a1, vA r, a3, a4, a5, a6, a7] (vA r :: S) h Q := wp_aload rfl rfl
theorem s335_927 : WP 335 0 927 L (vA (some a) :: S) h Q ↔ ((hk h a).1 = 110 ∧ (zw S ≤ 8 ∧ WP 172 0 0 [vA (some a), vJ, vJ] [] h (zret 335 0 927 930 L S Q))) := wp_V1 (c := 110) rfl rfl (fun _ => rfl) rfl rfl (zcan_of rfl rfl) rfl rfl rfl
theorem s335_930 : WP 335 0 930 L (vI y :: vI x :: S) h Q ↔ zif (x = y) (WP 335 0 2799 L S h Q) (WP 335 0 933 L S h Q) := wp_bE zc_eq rfl rfl rfl
theorem s335_933 : WP 335 0 933 L S h Q ↔ WP 335 0 934 L (vI 0 :: S) h Q := wp_pl rfl rfl rfl
theorem s335_934 : WP 335 0 934 L [vI x] h Q ↔ ((x = 0 ∨ x = 1) ∧ Q (.inl (some (vI x))) h) := wp_iret rfl rfl
theorem s335_935 : WP 335 0 935 [a0, vA r, a2, a3, a4, a5, a6, a7] S h Q ↔ WP 335 0 936 [a0, vA r, a2, a3, a4, a5, a6, a7] (vA r :: S) h Q := wp_aload rfl rfl
theorem s335_936 : WP 335 0 936 L (vA (some a) :: S) h Q ↔ ((hk h a).1 = 100 ∧ (zw S ≤ 8 ∧ WP 25 0 0 [vA (some a), vJ, vJ, vJ] [] h (zret 335 0 936 939 L S Q))) := wp_V1 (c := 100) rfl rfl (fun _ => rfl) rfl rfl (zcan_of rfl rfl) rfl rfl rfl
theorem s335_939 : WP 335 0 939 [a0, a1, vA r, a3, a4, a5, a6, a7] S h Q ↔ WP 335 0 940 [a0, a1, vA r, a3, a4, a5, a6, a7] (vA r :: S) h Q := wp_aload rfl rfl
theorem s335_940 : WP 335 0 940 L (vA (some a) :: S) h Q ↔ ((hk h a).1 = 110 ∧ (zw S ≤ 8 ∧ WP 171 0 0 [vA (some a), vJ, vJ, vJ] [] h (zret 335 0 940 943 L S Q))) := wp_V1 (c := 110) rfl rfl (fun _ => rfl) rfl rfl (zcan_of rfl rfl) rfl rfl rfl
theorem s335_943 : WP 335 0 943 L (vI y :: vI x :: S) h Q ↔ zif (x = y) (WP 335 0 2799 L S h Q) (WP 335 0 946 L S h Q) := wp_bE zc_eq rfl rfl rfl
theorem s335_946 : WP 335 0 946 L S h Q ↔ WP 335 0 947 L (vI 0 :: S) h Q := wp_pl rfl rfl rfl
theorem s335_947 : WP 335 0 947 L [vI x] h Q ↔ ((x = 0 ∨ x = 1) ∧ Q (.inl (some (vI x))) h) := wp_iret rfl rfl
theorem s335_948 : WP 335 0 948 [a0, vA r, a2, a3, a4, a5, a6, a7] S h Q ↔ WP 335 0 949 [a0, vA r, a2, a3, a4, a5, a6, a7] (vA r :: S) h Q := wp_aload rfl rfl
theorem s335_949 : WP 335 0 949 [vA r, a1, a2, a3, a4, a5, a6, a7] S h Q ↔ WP 335 0 950 [vA r, a1, a2, a3, a4, a5, a6, a7] (vA r :: S) h Q := wp_aload rfl rfl
theorem s335_950 : WP 335 0 950 [a0, a1, a2, a3, vI x, a5, a6, a7] S h Q ↔ WP 335 0 952 [a0, a1, a2, a3, vI x, a5, a6, a7] (vI x :: S) h Q := wp_iload rfl rfl
theorem s335_952 : WP 335 0 952 L S h Q ↔ WP 335 0 953 L (vI 1 :: S) h Q := wp_pl rfl rfl rfl
theorem s335_953 : WP 335 0 953 L (vI y :: vI x :: S) h Q ↔ WP 335 0 954 L (vI (wr (x + y)) :: S) h Q := wp_pl rfl rfl rfl
theorem s335_954 : WP 335 0 954 L (vI x :: vA (some a) :: S) h Q ↔ (((hk h a).1 = 1 ∧ 0 ≤ x ∧ x < ((hk h a).2 : Int)) ∧ WP 335 0 955 L (hm h a x.toNat :: S) h Q) := wp_if rfl rfl rfl
theorem s335_955 : WP 335 0 955 [a0, a1, a2, vA r, a4, a5, a6, a7] S h Q ↔ WP 335 0 956 [a0, a1, a2, vA r, a4, a5, a6, a7] (vA r :: S) h Q := wp_aload rfl rfl
theorem s335_956 : WP 335 0 956 L (vA r2 :: vI x1 :: vA r0 :: S) h Q ↔ (zw S ≤ 8 ∧ WP 342 0 0 [vA r0, vI x1, vA r2, vJ] [] h (zret 335 0 956 959 L S Q)) := wp_S rfl rfl (zcan_of rfl rfl) rfl rfl rfl
theorem s335_959 : WP 335 0 959 [a0, a1, a2, a3, a4, a5, a6, a7] (vI x :: S) h Q ↔ WP 335 0 961 [a0, a1, a2, a3, a4, vI x, a6, a7] S h Q := wp_istore rfl rfl rfl
theorem s335_961 : WP 335 0 961 [a0, a1, vA r, a3, a4, a5, a6, a7] S h Q ↔ WP 335 0 962 [a0, a1, vA r, a3, a4, a5, a6, a7] (vA r :: S) h Q := wp_aload rfl rfl
theorem s335_962 : WP 335 0 962 [vA r, a1, a2, a3, a4, a5, a6, a7] S h Q ↔ WP 335 0 963 [vA r, a1, a2, a3, a4, a5, a6, a7] (vA r :: S) h Q := wp_aload rfl rfl
theorem s335_963 : WP 335 0 963 [a0, a1, a2, a3, vI x, a5, a6, a7] S h Q ↔ WP 335 0 965 [a0, a1, a2, a3, vI x, a5, a6, a7] (vI x :: S) h Q := wp_iload rfl rfl
theorem s335_965 : WP 335 0 965 L S h Q ↔ WP 335 0 966 L (vI 1 :: S) h Q := wp_pl rfl rfl rfl
theorem s335_966 : WP 335 0 966 L (vI y :: vI x :: S) h Q ↔ WP 335 0 967 L (vI (wr (x + y)) :: S) h Q := wp_pl rfl rfl rfl
theorem s335_967 : WP 335 0 967 L (vI x :: vA (some a) :: S) h Q ↔ (((hk h a).1 = 1 ∧ 0 ≤ x ∧ x < ((hk h a).2 : Int)) ∧ WP 335 0 968 L (hm h a x.toNat :: S) h Q) := wp_if rfl rfl rfl
theorem s335_968 : WP 335 0 968 L (vI x0 :: vA (some a) :: S) h Q ↔ ((hk h a).1 = 110 ∧ (zw S ≤ 8 ∧ WP 165 0 0 [vA (some a), vI x0, vJ] [] h (zret 335 0 968 971 L S Q))) := wp_V1 (c := 110) rfl rfl (fun _ => rfl) rfl rfl (zcan_of rfl rfl) rfl rfl rfl
theorem s335_971 : WP 335 0 971 [a0, a1, a2, a3, a4, a5, a6, a7] (vI x :: S) h Q ↔ WP 335 0 973 [a0, a1, a2, a3, a4, a5, vI x, a7] S h Q := wp_istore rfl rfl rfl
theorem s335_973 : WP 335 0 973 [a0, a1, vA r, a3, a4, a5, a6, a7] S h Q ↔ WP 335 0 974 [a0, a1, vA r, a3, a4, a5, a6, a7] (vA r :: S) h Q := wp_aload rfl rfl
theorem s335_974 : WP 335 0 974 L (vA (some a) :: S) h Q ↔ ((hk h a).1 = 110 ∧ (zw S ≤ 8 ∧ WP 247 0 0 [vA (some a)] [] h (zret 335 0 974 977 L S Q))) := wp_V1 (c := 110) rfl rfl (fun _ => rfl) rfl rfl (zcan_of rfl rfl) rfl rfl rfl
theorem s335_977 : WP 335 0 977 [a0, a1, a2, a3, a4, vI x, a6, a7] S h Q ↔ WP 335 0 979 [a0, a1, a2, a3, a4, vI x, a6, a7] (vI x :: S) h Q := wp_iload rfl rfl
theorem s335_979 : WP 335 0 979 L (vI y :: vI x :: S) h Q ↔ zif (x = y) (WP 335 0 984 L S h Q) (WP 335 0 982 L S h Q) := wp_bE zc_eq rfl rfl rfl
theorem s335_982 : WP 335 0 982 L S h Q ↔ WP 335 0 983 L (vI 0 :: S) h Q := wp_pl rfl rfl rfl
theorem s335_983 : WP 335 0 983 L [vI x] h Q ↔ ((x = 0 ∨ x = 1) ∧ Q (.inl (some (vI x))) h) := wp_iret rfl rfl
theorem s335_984 : WP 335 0 984 [a0, a1, a2, a3, a4, vI x, a6, a7] S h Q ↔ WP 335 0 986 [a0, a1, a2, a3, a4, vI x, a6, a7] (vI x :: S) h Q := wp_iload rfl rfl
theorem s335_986 : WP 335 0 986 L (vI x :: S) h Q ↔ zif (x = 0) (WP 335 0 989 L S h Q) (WP 335 0 1001 L S h Q) := wp_bN zc_eq rfl rfl rfl
theorem s335_989 : WP 335 0 989 [a0, a1, a2, vA r, a4, a5, a6, a7] S h Q ↔ WP 335 0 990 [a0, a1, a2, vA r, a4, a5, a6, a7] (vA r :: S) h Q := wp_aload rfl rfl
theorem s335_990 : WP 335 0 990 L S h Q ↔ WP 335 0 991 L (vI 0 :: S) h Q := wp_pl rfl rfl rfl
theorem s335_991 : WP 335 0 991 L (vI x :: vA (some a) :: S) h Q ↔ (((hk h a).1 = 4 ∧ 0 ≤ x ∧ x < ((hk h a).2 : Int)) ∧ WP 335 0 992 L (hm h a x.toNat :: S) h Q) := wp_if rfl rfl rfl
theorem s335_992 : WP 335 0 992 [a0, a1, a2, a3, a4, a5, vI x, a7] S h Q ↔ WP 335 0 994 [a0, a1, a2, a3, a4, a5, vI x, a7] (vI x :: S) h Q := wp_iload rfl rfl
theorem s335_994 : WP 335 0 994 L (vI x :: S) h Q ↔ WP 335 0 995 L (vL x :: S) h Q := wp_pl rfl rfl rfl
theorem s335_995 : WP 335 0 995 L (vL y :: vL x :: S) h Q ↔ WP 335 0 996 L (vI (zlc x y) :: S) h Q := wp_pl rfl rfl rfl
theorem s335_996 : WP 335 0 996 L (vI x :: S) h Q ↔ zif (x = 0) (WP 335 0 1001 L S h Q) (WP 335 0 999 L S h Q) := wp_bE zc_eq rfl rfl rfl
theorem s335_999 : WP 335 0 999 L S h Q ↔ WP 335 0 1000 L (vI 0 :: S) h Q := wp_pl rfl rfl rfl
theorem s335_1000 : WP 335 0 1000 L [vI x] h Q ↔ ((x = 0 ∨ x = 1) ∧ Q (.inl (some (vI x))) h) := wp_iret rfl rfl
theorem s335_1001 : WP 335 0 1001 L S h Q ↔ WP 335 0 2799 L S h Q := wp_pl rfl rfl rfl
theorem s335_1004 : WP 335 0 1004 [a0, vA r, a2, a3, a4, a5, a6, a7] S h Q ↔ WP 335 0 1005 [a0, vA r, a2, a3, a4, a5, a6, a7] (vA r :: S) h Q := wp_aload rfl rfl
theorem s335_1005 : WP 335 0 1005 [a0, a1, a2, vA r, a4, a5, a6, a7] S h Q ↔ WP 335 0 1006 [a0, a1, a2, vA r, a4, a5, a6, a7] (vA r :: S) h Q := wp_aload rfl rfl
theorem s335_1006 : WP 335 0 1006 L (vA r1 :: vA r0 :: S) h Q ↔ (zw S ≤ 8 ∧ WP 355 0 0 [vA r0, vA r1, vJ] [] h (zret 335 0 1006 1009 L S Q)) := wp_S rfl rfl (zcan_of rfl rfl) rfl rfl rfl
theorem s335_1009 : WP 335 0 1009 [a0, a1, a2, a3, a4, a5, a6, a7] (vI x :: S) h Q ↔ WP 335 0 1011 [a0, a1, a2, a3, a4, vI x, a6, a7] S h Q := wp_istore rfl rfl rfl
theorem s335_1011 : WP 335 0 1011 [a0, a1, vA r, a3, a4, a5, a6, a7] S h Q ↔ WP 335 0 1012 [a0, a1, vA r, a3, a4, a5, a6, a7] (vA r :: S) h Q := wp_aload rfl rfl
theorem s335_1012 : WP 335 0 1012 L (vA (some a) :: S) h Q ↔ ((hk h a).1 = 110 ∧ (zw S ≤ 8 ∧ WP 220 0 0 [vA (some a), vJ, vJ, vJ, vJ] [] h (zret 335 0 1012 1015 L S Q))) := wp_V1 (c := 110) rfl rfl (fun _ => rfl) rfl rfl (zcan_of rfl rfl) rfl rfl rfl
theorem s335_1015 : WP 335 0 1015 [a0, a1, a2, a3, a4, a5, a6, a7] (vI x :: S) h Q ↔ WP 335 0 1017 [a0, a1, a2, a3, a4, a5, vI x, a7] S h Q := wp_istore rfl rfl rfl
theorem s335_1017 : WP 335 0 1017 [a0, a1, vA r, a3, a4, a5, a6, a7] S h Q ↔ WP 335 0 1018 [a0, a1, vA r, a3, a4, a5, a6, a7] (vA r :: S) h Q := wp_aload rfl rfl
theorem s335_1018 : WP 335 0 1018 L (vA (some a) :: S) h Q ↔ ((hk h a).1 = 110 ∧ (zw S ≤ 8 ∧ WP 247 0 0 [vA (some a)] [] h (zret 335 0 1018 1021 L S Q))) := wp_V1 (c := 110) rfl rfl (fun _ => rfl) rfl rfl (zcan_of rfl rfl) rfl rfl rfl
theorem s335_1021 : WP 335 0 1021 [a0, a1, a2, a3, a4, vI x, a6, a7] S h Q ↔ WP 335 0 1023 [a0, a1, a2, a3, a4, vI x, a6, a7] (vI x :: S) h Q := wp_iload rfl rfl
theorem s335_1023 : WP 335 0 1023 L (vI y :: vI x :: S) h Q ↔ zif (x = y) (WP 335 0 1028 L S h Q) (WP 335 0 1026 L S h Q) := wp_bE zc_eq rfl rfl rfl
theorem s335_1026 : WP 335 0 1026 L S h Q ↔ WP 335 0 1027 L (vI 0 :: S) h Q := wp_pl rfl rfl rfl
theorem s335_1027 : WP 335 0 1027 L [vI x] h Q ↔ ((x = 0 ∨ x = 1) ∧ Q (.inl (some (vI x))) h) := wp_iret rfl rfl
theorem s335_1028 : WP 335 0 1028 [a0, a1, a2, a3, a4, vI x, a6, a7] S h Q ↔ WP 335 0 1030 [a0, a1, a2, a3, a4, vI x, a6, a7] (vI x :: S) h Q := wp_iload rfl rfl
theorem s335_1030 : WP 335 0 1030 L (vI x :: S) h Q ↔ zif (x = 0) (WP 335 0 1033 L S h Q) (WP 335 0 1045 L S h Q) := wp_bN zc_eq rfl rfl rfl
theorem s335_1033 : WP 335 0 1033 [a0, a1, a2, vA r, a4, a5, a6, a7] S h Q ↔ WP 335 0 1034 [a0, a1, a2, vA r, a4, a5, a6, a7] (vA r :: S) h Q := wp_aload rfl rfl
theorem s335_1034 : WP 335 0 1034 L S h Q ↔ WP 335 0 1035 L (vI 0 :: S) h Q := wp_pl rfl rfl rfl
theorem s335_1035 : WP 335 0 1035 L (vI x :: vA (some a) :: S) h Q ↔ (((hk h a).1 = 4 ∧ 0 ≤ x ∧ x < ((hk h a).2 : Int)) ∧ WP 335 0 1036 L (hm h a x.toNat :: S) h Q) := wp_if rfl rfl rfl
theorem s335_1036 : WP 335 0 1036 [a0, a1, a2, a3, a4, a5, vI x, a7] S h Q ↔ WP 335 0 1038 [a0, a1, a2, a3, a4, a5, vI x, a7] (vI x :: S) h Q := wp_iload rfl rfl
theorem s335_1038 : WP 335 0 1038 L (vI x :: S) h Q ↔ WP 335 0 1039 L (vL x :: S) h Q := wp_pl rfl rfl rfl
theorem s335_1039 : WP 335 0 1039 L (vL y :: vL x :: S) h Q ↔ WP 335 0 1040 L (vI (zlc x y) :: S) h Q := wp_pl rfl rfl rfl
theorem s335_1040 : WP 335 0 1040 L (vI x :: S) h Q ↔ zif (x = 0) (WP 335 0 1045 L S h Q) (WP 335 0 1043 L S h Q) := wp_bE zc_eq rfl rfl rfl
theorem s335_1043 : WP 335 0 1043 L S h Q ↔ WP 335 0 1044 L (vI 0 :: S) h Q := wp_pl rfl rfl rfl
theorem s335_1044 : WP 335 0 1044 L [vI x] h Q ↔ ((x = 0 ∨ x = 1) ∧ Q (.inl (some (vI x))) h) := wp_iret rfl rfl
theorem s335_1045 : WP 335 0 1045 L S h Q ↔ WP 335 0 2799 L S h Q := wp_pl rfl rfl rfl
theorem s335_1048 : WP 335 0 1048 [a0, vA r, a2, a3, a4, a5, a6, a7] S h Q ↔ WP 335 0 1049 [a0, vA r, a2, a3, a4, a5, a6, a7] (vA r :: S) h Q := wp_aload rfl rfl
theorem s335_1049 : WP 335 0 1049 [vA r, a1, a2, a3, a4, a5, a6, a7] S h Q ↔ WP 335 0 1050 [vA r, a1, a2, a3, a4, a5, a6, a7] (vA r :: S) h Q := wp_aload rfl rfl
theorem s335_1050 : WP 335 0 1050 [a0, a1, a2, a3, vI x, a5, a6, a7] S h Q ↔ WP 335 0 1052 [a0, a1, a2, a3, vI x, a5, a6, a7] (vI x :: S) h Q := wp_iload rfl rfl
theorem s335_1052 : WP 335 0 1052 L S h Q ↔ WP 335 0 1053 L (vI 1 :: S) h Q := wp_pl rfl rfl rfl
theorem s335_1053 : WP 335 0 1053 L (vI y :: vI x :: S) h Q ↔ WP 335 0 1054 L (vI (wr (x + y)) :: S) h Q := wp_pl rfl rfl rfl
theorem s335_1054 : WP 335 0 1054 L (vI x :: vA (some a) :: S) h Q ↔ (((hk h a).1 = 1 ∧ 0 ≤ x ∧ x < ((hk h a).2 : Int)) ∧ WP 335 0 1055 L (hm h a x.toNat :: S) h Q) := wp_if rfl rfl rfl
theorem s335_1055 : WP 335 0 1055 [a0, a1, a2, vA r, a4, a5, a6, a7] S h Q ↔ WP 335 0 1056 [a0, a1, a2, vA r, a4, a5, a6, a7] (vA r :: S) h Q := wp_aload rfl rfl
theorem s335_1056 : WP 335 0 1056 L (vA r2 :: vI x1 :: vA r0 :: S) h Q ↔ (zw S ≤ 8 ∧ WP 353 0 0 [vA r0, vI x1, vA r2, vJ] [] h (zret 335 0 1056 1059 L S Q)) := wp_S rfl rfl (zcan_of rfl rfl) rfl rfl rfl
theorem s335_1059 : WP 335 0 1059 [a0, a1, a2, a3, a4, a5, a6, a7] (vI x :: S) h Q ↔ WP 335 0 1061 [a0, a1, a2, a3, a4, vI x, a6, a7] S h Q := wp_istore rfl rfl rfl
theorem s335_1061 : WP 335 0 1061 [a0, a1, vA r, a3, a4, a5, a6, a7] S h Q ↔ WP 335 0 1062 [a0, a1, vA r, a3, a4, a5, a6, a7] (vA r :: S) h Q := wp_aload rfl rfl
theorem s335_1062 : WP 335 0 1062 [vA r, a1, a2, a3, a4, a5, a6, a7] S h Q ↔ WP 335 0 1063 [vA r, a1, a2, a3, a4, a5, a6, a7] (vA r :: S) h Q := wp_aload rfl rfl
theorem s335_1063 : WP 335 0 1063 [a0, a1, a2, a3, vI x, a5, a6, a7] S h Q ↔ WP 335 0 1065 [a0, a1, a2, a3, vI x, a5, a6, a7] (vI x :: S) h Q := wp_iload rfl rfl
theorem s335_1065 : WP 335 0 1065 L S h Q ↔ WP 335 0 1066 L (vI 1 :: S) h Q := wp_pl rfl rfl rfl
theorem s335_1066 : WP 335 0 1066 L (vI y :: vI x :: S) h Q ↔ WP 335 0 1067 L (vI (wr (x + y)) :: S) h Q := wp_pl rfl rfl rfl
theorem s335_1067 : WP 335 0 1067 L (vI x :: vA (some a) :: S) h Q ↔ (((hk h a).1 = 1 ∧ 0 ≤ x ∧ x < ((hk h a).2 : Int)) ∧ WP 335 0 1068 L (hm h a x.toNat :: S) h Q) := wp_if rfl rfl rfl
theorem s335_1068 : WP 335 0 1068 L (vI x0 :: vA (some a) :: S) h Q ↔ ((hk h a).1 = 110 ∧ (zw S ≤ 8 ∧ WP 214 0 0 [vA (some a), vI x0] [] h (zret 335 0 1068 1071 L S Q))) := wp_V1 (c := 110) rfl rfl (fun _ => rfl) rfl rfl (zcan_of rfl rfl) rfl rfl rfl
theorem s335_1071 : WP 335 0 1071 [a0, a1, a2, a3, a4, a5, a6, a7] (vI x :: S) h Q ↔ WP 335 0 1073 [a0, a1, a2, a3, a4, a5, vI x, a7] S h Q := wp_istore rfl rfl rfl
theorem s335_1073 : WP 335 0 1073 [a0, a1, vA r, a3, a4, a5, a6, a7] S h Q ↔ WP 335 0 1074 [a0, a1, vA r, a3, a4, a5, a6, a7] (vA r :: S) h Q := wp_aload rfl rfl
theorem s335_1074 : WP 335 0 1074 L (vA (some a) :: S) h Q ↔ ((hk h a).1 = 110 ∧ (zw S ≤ 8 ∧ WP 247 0 0 [vA (some a)] [] h (zret 335 0 1074 1077 L S Q))) := wp_V1 (c := 110) rfl rfl (fun _ => rfl) rfl rfl (zcan_of rfl rfl) rfl rfl rfl
theorem s335_1077 : WP 335 0 1077 [a0, a1, a2, a3, a4, vI x, a6, a7] S h Q ↔ WP 335 0 1079 [a0, a1, a2, a3, a4, vI x, a6, a7] (vI x :: S) h Q := wp_iload rfl rfl
theorem s335_1079 : WP 335 0 1079 L (vI y :: vI x :: S) h Q ↔ zif (x = y) (WP 335 0 1084 L S h Q) (WP 335 0 1082 L S h Q) := wp_bE zc_eq rfl rfl rfl
theorem s335_1082 : WP 335 0 1082 L S h Q ↔ WP 335 0 1083 L (vI 0 :: S) h Q := wp_pl rfl rfl rfl
theorem s335_1083 : WP 335 0 1083 L [vI x] h Q ↔ ((x = 0 ∨ x = 1) ∧ Q (.inl (some (vI x))) h) := wp_iret rfl rfl
theorem s335_1084 : WP 335 0 1084 [a0, a1, a2, a3, a4, vI x, a6, a7] S h Q ↔ WP 335 0 1086 [a0, a1, a2, a3, a4, vI x, a6, a7] (vI x :: S) h Q := wp_iload rfl rfl
theorem s335_1086 : WP 335 0 1086 L (vI x :: S) h Q ↔ zif (x = 0) (WP 335 0 1089 L S h Q) (WP 335 0 1101 L S h Q) := wp_bN zc_eq rfl rfl rfl
theorem s335_1089 : WP 335 0 1089 [a0, a1, a2, vA r, a4, a5, a6, a7] S h Q ↔ WP 335 0 1090 [a0, a1, a2, vA r, a4, a5, a6, a7] (vA r :: S) h Q := wp_aload rfl rfl
theorem s335_1090 : WP 335 0 1090 L S h Q ↔ WP 335 0 1091 L (vI 0 :: S) h Q := wp_pl rfl rfl rfl
theorem s335_1091 : WP 335 0 1091 L (vI x :: vA (some a) :: S) h Q ↔ (((hk h a).1 = 4 ∧ 0 ≤ x ∧ x < ((hk h a).2 : Int)) ∧ WP 335 0 1092 L (hm h a x.toNat :: S) h Q) := wp_if rfl rfl rfl
theorem s335_1092 : WP 335 0 1092 [a0, a1, a2, a3, a4, a5, vI x, a7] S h Q ↔ WP 335 0 1094 [a0, a1, a2, a3, a4, a5, vI x, a7] (vI x :: S) h Q := wp_iload rfl rfl
theorem s335_1094 : WP 335 0 1094 L (vI x :: S) h Q ↔ WP 335 0 1095 L (vL x :: S) h Q := wp_pl rfl rfl rfl
theorem s335_1095 : WP 335 0 1095 L (vL y :: vL x :: S) h Q ↔ WP 335 0 1096 L (vI (zlc x y) :: S) h Q := wp_pl rfl rfl rfl
theorem s335_1096 : WP 335 0 1096 L (vI x :: S) h Q ↔ zif (x = 0) (WP 335 0 1101 L S h Q) (WP 335 0 1099 L S h Q) := wp_bE zc_eq rfl rfl rfl
theorem s335_1099 : WP 335 0 1099 L S h Q ↔ WP 335 0 1100 L (vI 0 :: S) h Q := wp_pl rfl rfl rfl
theorem s335_1100 : WP 335 0 1100 L [vI x] h Q ↔ ((x = 0 ∨ x = 1) ∧ Q (.inl (some (vI x))) h) := wp_iret rfl rfl
theorem s335_1101 : WP 335 0 1101 L S h Q ↔ WP 335 0 2799 L S h Q := wp_pl rfl rfl rfl
theorem s335_1104 : WP 335 0 1104 [a0, vA r, a2, a3, a4, a5, a6, a7] S h Q ↔ WP 335 0 1105 [a0, vA r, a2, a3, a4, a5, a6, a7] (vA r :: S) h Q := wp_aload rfl rfl
theorem s335_1105 : WP 335 0 1105 L (vA (some a) :: S) h Q ↔ ((hk h a).1 = 100 ∧ (zw S ≤ 8 ∧ WP 54 0 0 [vA (some a), vJ, vJ] [] h (zret 335 0 1105 1108 L S Q))) := wp_V1 (c := 100) rfl rfl (fun _ => rfl) rfl rfl (zcan_of rfl rfl) rfl rfl rfl
theorem s335_1108 : WP 335 0 1108 [a0, a1, vA r, a3, a4, a5, a6, a7] S h Q ↔ WP 335 0 1109 [a0, a1, vA r, a3, a4, a5, a6, a7] (vA r :: S) h Q := wp_aload rfl rfl
theorem s335_1109 : WP 335 0 1109 L (vA (some a) :: S) h Q ↔ ((hk h a).1 = 110 ∧ (zw S ≤ 8 ∧ WP 211 0 0 [vA (some a), vJ, vJ] [] h (zret 335 0 1109 1112 L S Q))) := wp_V1 (c := 110) rfl rfl (fun _ => rfl) rfl rfl (zcan_of rfl rfl) rfl rfl rfl
theorem s335_1112 : WP 335 0 1112 L (vI y :: vI x :: S) h Q ↔ zif (x = y) (WP 335 0 2799 L S h Q) (WP 335 0 1115 L S h Q) := wp_bE zc_eq rfl rfl rfl
theorem s335_1115 : WP 335 0 1115 L S h Q ↔ WP 335 0 1116 L (vI 0 :: S) h Q := wp_pl rfl rfl rfl
theorem s335_1116 : WP 335 0 1116 L [vI x] h Q ↔ ((x = 0 ∨ x = 1) ∧ Q (.inl (some (vI x))) h) := wp_iret rfl rfl
theorem s335_1117 : WP 335 0 1117 [a0, vA r, a2, a3, a4, a5, a6, a7] S h Q ↔ WP 335 0 1118 [a0, vA r, a2, a3, a4, a5, a6, a7] (vA r :: S) h Q := wp_aload rfl rfl
theorem s335_1118 : WP 335 0 1118 [vA r, a1, a2, a3, a4, a5, a6, a7] S h Q ↔ WP 335 0 1119 [vA r, a1, a2, a3, a4, a5, a6, a7] (vA r :: S) h Q := wp_aload rfl rfl
theorem s335_1119 : WP 335 0 1119 [a0, a1, a2, a3, vI x, a5, a6, a7] S h Q ↔ WP 335 0 1121 [a0, a1, a2, a3, vI x, a5, a6, a7] (vI x :: S) h Q := wp_iload rfl rfl
theorem s335_1121 : WP 335 0 1121 L S h Q ↔ WP 335 0 1122 L (vI 1 :: S) h Q := wp_pl rfl rfl rfl
theorem s335_1122 : WP 335 0 1122 L (vI y :: vI x :: S) h Q ↔ WP 335 0 1123 L (vI (wr (x + y)) :: S) h Q := wp_pl rfl rfl rfl
theorem s335_1123 : WP 335 0 1123 L (vI x :: vA (some a) :: S) h Q ↔ (((hk h a).1 = 1 ∧ 0 ≤ x ∧ x < ((hk h a).2 : Int)) ∧ WP 335 0 1124 L (hm h a x.toNat :: S) h Q) := wp_if rfl rfl rfl
theorem s335_1124 : WP 335 0 1124 [a0, a1, a2, vA r, a4, a5, a6, a7] S h Q ↔ WP 335 0 1125 [a0, a1, a2, vA r, a4, a5, a6, a7] (vA r :: S) h Q := wp_aload rfl rfl
theorem s335_1125 : WP 335 0 1125 L (vA r2 :: vI x1 :: vA r0 :: S) h Q ↔ (zw S ≤ 8 ∧ WP 345 0 0 [vA r0, vI x1, vA r2, vJ] [] h (zret 335 0 1125 1128 L S Q)) := wp_S rfl rfl (zcan_of rfl rfl) rfl rfl rfl
theorem s335_1128 : WP 335 0 1128 [a0, a1, a2, a3, a4, a5, a6, a7] (vI x :: S) h Q ↔ WP 335 0 1130 [a0, a1, a2, a3, a4, vI x, a6, a7] S h Q := wp_istore rfl rfl rfl
theorem s335_1130 : WP 335 0 1130 [a0, a1, vA r, a3, a4, a5, a6, a7] S h Q ↔ WP 335 0 1131 [a0, a1, vA r, a3, a4, a5, a6, a7] (vA r :: S) h Q := wp_aload rfl rfl
theorem s335_1131 : WP 335 0 1131 [vA r, a1, a2, a3, a4, a5, a6, a7] S h Q ↔ WP 335 0 1132 [vA r, a1, a2, a3, a4, a5, a6, a7] (vA r :: S) h Q := wp_aload rfl rfl
theorem s335_1132 : WP 335 0 1132 [a0, a1, a2, a3, vI x, a5, a6, a7] S h Q ↔ WP 335 0 1134 [a0, a1, a2, a3, vI x, a5, a6, a7] (vI x :: S) h Q := wp_iload rfl rfl
theorem s335_1134 : WP 335 0 1134 L S h Q ↔ WP 335 0 1135 L (vI 1 :: S) h Q := wp_pl rfl rfl rfl
theorem s335_1135 : WP 335 0 1135 L (vI y :: vI x :: S) h Q ↔ WP 335 0 1136 L (vI (wr (x + y)) :: S) h Q := wp_pl rfl rfl rfl
theorem s335_1136 : WP 335 0 1136 L (vI x :: vA (some a) :: S) h Q ↔ (((hk h a).1 = 1 ∧ 0 ≤ x ∧ x < ((hk h a).2 : Int)) ∧ WP 335 0 1137 L (hm h a x.toNat :: S) h Q) := wp_if rfl rfl rfl
theorem s335_1137 : WP 335 0 1137 L (vI x0 :: vA (some a) :: S) h Q ↔ ((hk h a).1 = 110 ∧ (zw S ≤ 8 ∧ WP 176 0 0 [vA (some a), vI x0, vJ, vJ] [] h (zret 335 0 1137 1140 L S Q))) := wp_V1 (c := 110) rfl rfl (fun _ => rfl) rfl rfl (zcan_of rfl rfl) rfl rfl rfl
theorem s335_1140 : WP 335 0 1140 [a0, a1, a2, a3, a4, a5, a6, a7] (vI x :: S) h Q ↔ WP 335 0 1142 [a0, a1, a2, a3, a4, a5, vI x, a7] S h Q := wp_istore rfl rfl rfl
theorem s335_1142 : WP 335 0 1142 [a0, a1, vA r, a3, a4, a5, a6, a7] S h Q ↔ WP 335 0 1143 [a0, a1, vA r, a3, a4, a5, a6, a7] (vA r :: S) h Q := wp_aload rfl rfl
theorem s335_1143 : WP 335 0 1143 L (vA (some a) :: S) h Q ↔ ((hk h a).1 = 110 ∧ (zw S ≤ 8 ∧ WP 247 0 0 [vA (some a)] [] h (zret 335 0 1143 1146 L S Q))) := wp_V1 (c := 110) rfl rfl (fun _ => rfl) rfl rfl (zcan_of rfl rfl) rfl rfl rfl
theorem s335_1146 : WP 335 0 1146 [a0, a1, a2, a3, a4, vI x, a6, a7] S h Q ↔ WP 335 0 1148 [a0, a1, a2, a3, a4, vI x, a6, a7] (vI x :: S) h Q := wp_iload rfl rfl
theorem s335_1148 : WP 335 0 1148 L (vI y :: vI x :: S) h Q ↔ zif (x = y) (WP 335 0 1153 L S h Q) (WP 335 0 1151 L S h Q) := wp_bE zc_eq rfl rfl rfl
theorem s335_1151 : WP 335 0 1151 L S h Q ↔ WP 335 0 1152 L (vI 0 :: S) h Q := wp_pl rfl rfl rfl
theorem s335_1152 : WP 335 0 1152 L [vI x] h Q ↔ ((x = 0 ∨ x = 1) ∧ Q (.inl (some (vI x))) h) := wp_iret rfl rfl
theorem s335_1153 : WP 335 0 1153 [a0, a1, a2, a3, a4, vI x, a6, a7] S h Q ↔ WP 335 0 1155 [a0, a1, a2, a3, a4, vI x, a6, a7] (vI x :: S) h Q := wp_iload rfl rfl
theorem s335_1155 : WP 335 0 1155 L (vI x :: S) h Q ↔ zif (x = 0) (WP 335 0 1158 L S h Q) (WP 335 0 1170 L S h Q) := wp_bN zc_eq rfl rfl rfl
theorem s335_1158 : WP 335 0 1158 [a0, a1, a2, vA r, a4, a5, a6, a7] S h Q ↔ WP 335 0 1159 [a0, a1, a2, vA r, a4, a5, a6, a7] (vA r :: S) h Q := wp_aload rfl rfl
theorem s335_1159 : WP 335 0 1159 L S h Q ↔ WP 335 0 1160 L (vI 0 :: S) h Q := wp_pl rfl rfl rfl
theorem s335_1160 : WP 335 0 1160 L (vI x :: vA (some a) :: S) h Q ↔ (((hk h a).1 = 4 ∧ 0 ≤ x ∧ x < ((hk h a).2 : Int)) ∧ WP 335 0 1161 L (hm h a x.toNat :: S) h Q) := wp_if rfl rfl rfl
theorem s335_1161 : WP 335 0 1161 [a0, a1, a2, a3, a4, a5, vI x, a7] S h Q ↔ WP 335 0 1163 [a0, a1, a2, a3, a4, a5, vI x, a7] (vI x :: S) h Q := wp_iload rfl rfl
theorem s335_1163 : WP 335 0 1163 L (vI x :: S) h Q ↔ WP 335 0 1164 L (vL x :: S) h Q := wp_pl rfl rfl rfl
theorem s335_1164 : WP 335 0 1164 L (vL y :: vL x :: S) h Q ↔ WP 335 0 1165 L (vI (zlc x y) :: S) h Q := wp_pl rfl rfl rfl
theorem s335_1165 : WP 335 0 1165 L (vI x :: S) h Q ↔ zif (x = 0) (WP 335 0 1170 L S h Q) (WP 335 0 1168 L S h Q) := wp_bE zc_eq rfl rfl rfl
theorem s335_1168 : WP 335 0 1168 L S h Q ↔ WP 335 0 1169 L (vI 0 :: S) h Q := wp_pl rfl rfl rfl
theorem s335_1169 : WP 335 0 1169 L [vI x] h Q ↔ ((x = 0 ∨ x = 1) ∧ Q (.inl (some (vI x))) h) := wp_iret rfl rfl
theorem s335_1170 : WP 335 0 1170 L S h Q ↔ WP 335 0 2799 L S h Q := wp_pl rfl rfl rfl
theorem s335_1173 : WP 335 0 1173 [a0, vA r, a2, a3, a4, a5, a6, a7] S h Q ↔ WP 335 0 1174 [a0, vA r, a2, a3, a4, a5, a6, a7] (vA r :: S) h Q := wp_aload rfl rfl
theorem s335_1174 : WP 335 0 1174 [vA r, a1, a2, a3, a4, a5, a6, a7] S h Q ↔ WP 335 0 1175 [vA r, a1, a2, a3, a4, a5, a6, a7] (vA r :: S) h Q := wp_aload rfl rfl
theorem s335_1175 : WP 335 0 1175 [a0, a1, a2, a3, vI x, a5, a6, a7] S h Q ↔ WP 335 0 1177 [a0, a1, a2, a3, vI x, a5, a6, a7] (vI x :: S) h Q := wp_iload rfl rfl
theorem s335_1177 : WP 335 0 1177 L S h Q ↔ WP 335 0 1178 L (vI 1 :: S) h Q := wp_pl rfl rfl rfl
theorem s335_1178 : WP 335 0 1178 L (vI y :: vI x :: S) h Q ↔ WP 335 0 1179 L (vI (wr (x + y)) :: S) h Q := wp_pl rfl rfl rfl
theorem s335_1179 : WP 335 0 1179 L (vI x :: vA (some a) :: S) h Q ↔ (((hk h a).1 = 1 ∧ 0 ≤ x ∧ x < ((hk h a).2 : Int)) ∧ WP 335 0 1180 L (hm h a x.toNat :: S) h Q) := wp_if rfl rfl rfl
theorem s335_1180 : WP 335 0 1180 [a0, a1, a2, vA r, a4, a5, a6, a7] S h Q ↔ WP 335 0 1181 [a0, a1, a2, vA r, a4, a5, a6, a7] (vA r :: S) h Q := wp_aload rfl rfl
theorem s335_1181 : WP 335 0 1181 L (vA r2 :: vI x1 :: vA r0 :: S) h Q ↔ (zw S ≤ 8 ∧ WP 346 0 0 [vA r0, vI x1, vA r2, vJ] [] h (zret 335 0 1181 1184 L S Q)) := wp_S rfl rfl (zcan_of rfl rfl) rfl rfl rfl
theorem s335_1184 : WP 335 0 1184 [a0, a1, a2, a3, a4, a5, a6, a7] (vI x :: S) h Q ↔ WP 335 0 1186 [a0, a1, a2, a3, a4, vI x, a6, a7] S h Q := wp_istore rfl rfl rfl
theorem s335_1186 : WP 335 0 1186 [a0, a1, vA r, a3, a4, a5, a6, a7] S h Q ↔ WP 335 0 1187 [a0, a1, vA r, a3, a4, a5, a6, a7] (vA r :: S) h Q := wp_aload rfl rfl
theorem s335_1187 : WP 335 0 1187 [vA r, a1, a2, a3, a4, a5, a6, a7] S h Q ↔ WP 335 0 1188 [vA r, a1, a2, a3, a4, a5, a6, a7] (vA r :: S) h Q := wp_aload rfl rfl
theorem s335_1188 : WP 335 0 1188 [a0, a1, a2, a3, vI x, a5, a6, a7] S h Q ↔ WP 335 0 1190 [a0, a1, a2, a3, vI x, a5, a6, a7] (vI x :: S) h Q := wp_iload rfl rfl
theorem s335_1190 : WP 335 0 1190 L S h Q ↔ WP 335 0 1191 L (vI 1 :: S) h Q := wp_pl rfl rfl rfl
theorem s335_1191 : WP 335 0 1191 L (vI y :: vI x :: S) h Q ↔ WP 335 0 1192 L (vI (wr (x + y)) :: S) h Q := wp_pl rfl rfl rfl
theorem s335_1192 : WP 335 0 1192 L (vI x :: vA (some a) :: S) h Q ↔ (((hk h a).1 = 1 ∧ 0 ≤ x ∧ x < ((hk h a).2 : Int)) ∧ WP 335 0 1193 L (hm h a x.toNat :: S) h Q) := wp_if rfl rfl rfl
theorem s335_1193 : WP 335 0 1193 L (vI x0 :: vA (some a) :: S) h Q ↔ ((hk h a).1 = 110 ∧ (zw S ≤ 8 ∧ WP 179 0 0 [vA (some a), vI x0, vJ, vJ] [] h (zret 335 0 1193 1196 L S Q))) := wp_V1 (c := 110) rfl rfl (fun _ => rfl) rfl rfl (zcan_of rfl rfl) rfl rfl rfl
theorem s335_1196 : WP 335 0 1196 [a0, a1, a2, a3, a4, a5, a6, a7] (vI x :: S) h Q ↔ WP 335 0 1198 [a0, a1, a2, a3, a4, a5, vI x, a7] S h Q := wp_istore rfl rfl rfl
theorem s335_1198 : WP 335 0 1198 [a0, a1, vA r, a3, a4, a5, a6, a7] S h Q ↔ WP 335 0 1199 [a0, a1, vA r, a3, a4, a5, a6, a7] (vA r :: S) h Q := wp_aload rfl rfl
theorem s335_1199 : WP 335 0 1199 L (vA (some a) :: S) h Q ↔ ((hk h a).1 = 110 ∧ (zw S ≤ 8 ∧ WP 247 0 0 [vA (some a)] [] h (zret 335 0 1199 1202 L S Q))) := wp_V1 (c := 110) rfl rfl (fun _ => rfl) rfl rfl (zcan_of rfl rfl) rfl rfl rfl
theorem s335_1202 : WP 335 0 1202 [a0, a1, a2, a3, a4, vI x, a6, a7] S h Q ↔ WP 335 0 1204 [a0, a1, a2, a3, a4, vI x, a6, a7] (vI x :: S) h Q := wp_iload rfl rfl
theorem s335_1204 : WP 335 0 1204 L (vI y :: vI x :: S) h Q ↔ zif (x = y) (WP 335 0 1209 L S h Q) (WP 335 0 1207 L S h Q) := wp_bE zc_eq rfl rfl rfl
theorem s335_1207 : WP 335 0 1207 L S h Q ↔ WP 335 0 1208 L (vI 0 :: S) h Q := wp_pl rfl rfl rfl
theorem s335_1208 : WP 335 0 1208 L [vI x] h Q ↔ ((x = 0 ∨ x = 1) ∧ Q (.inl (some (vI x))) h) := wp_iret rfl rfl
theorem s335_1209 : WP 335 0 1209 [a0, a1, a2, a3, a4, vI x, a6, a7] S h Q ↔ WP 335 0 1211 [a0, a1, a2, a3, a4, vI x, a6, a7] (vI x :: S) h Q := wp_iload rfl rfl
theorem s335_1211 : WP 335 0 1211 L (vI x :: S) h Q ↔ zif (x = 0) (WP 335 0 1214 L S h Q) (WP 335 0 1226 L S h Q) := wp_bN zc_eq rfl rfl rfl
theorem s335_1214 : WP 335 0 1214 [a0, a1, a2, vA r, a4, a5, a6, a7] S h Q ↔ WP 335 0 1215 [a0, a1, a2, vA r, a4, a5, a6, a7] (vA r :: S) h Q := wp_aload rfl rfl
theorem s335_1215 : WP 335 0 1215 L S h Q ↔ WP 335 0 1216 L (vI 0 :: S) h Q := wp_pl rfl rfl rfl
theorem s335_1216 : WP 335 0 1216 L (vI x :: vA (some a) :: S) h Q ↔ (((hk h a).1 = 4 ∧ 0 ≤ x ∧ x < ((hk h a).2 : Int)) ∧ WP 335 0 1217 L (hm h a x.toNat :: S) h Q) := wp_if rfl rfl rfl
theorem s335_1217 : WP 335 0 1217 [a0, a1, a2, a3, a4, a5, vI x, a7] S h Q ↔ WP 335 0 1219 [a0, a1, a2, a3, a4, a5, vI x, a7] (vI x :: S) h Q := wp_iload rfl rfl
theorem s335_1219 : WP 335 0 1219 L (vI x :: S) h Q ↔ WP 335 0 1220 L (vL x :: S) h Q := wp_pl rfl rfl rfl
theorem s335_1220 : WP 335 0 1220 L (vL y :: vL x :: S) h Q ↔ WP 335 0 1221 L (vI (zlc x y) :: S) h Q := wp_pl rfl rfl rfl
theorem s335_1221 : WP 335 0 1221 L (vI x :: S) h Q ↔ zif (x = 0) (WP 335 0 1226 L S h Q) (WP 335 0 1224 L S h Q) := wp_bE zc_eq rfl rfl rfl
theorem s335_1224 : WP 335 0 1224 L S h Q ↔ WP 335 0 1225 L (vI 0 :: S) h Q := wp_pl rfl rfl rfl
theorem s335_1225 : WP 335 0 1225 L [vI x] h Q ↔ ((x = 0 ∨ x = 1) ∧ Q (.inl (some (vI x))) h) := wp_iret rfl rfl
theorem s335_1226 : WP 335 0 1226 L S h Q ↔ WP 335 0 2799 L S h Q := wp_pl rfl rfl rfl
theorem s335_1229 : WP 335 0 1229 [a0, vA r, a2, a3, a4, a5, a6, a7] S h Q ↔ WP 335 0 1230 [a0, vA r, a2, a3, a4, a5, a6, a7] (vA r :: S) h Q := wp_aload rfl rfl
theorem s335_1230 : WP 335 0 1230 [vA r, a1, a2, a3, a4, a5, a6, a7] S h Q ↔ WP 335 0 1231 [vA r, a1, a2, a3, a4, a5, a6, a7] (vA r :: S) h Q := wp_aload rfl rfl
theorem s335_1231 : WP 335 0 1231 [a0, a1, a2, a3, vI x, a5, a6, a7] S h Q ↔ WP 335 0 1233 [a0, a1, a2, a3, vI x, a5, a6, a7] (vI x :: S) h Q := wp_iload rfl rfl
theorem s335_1233 : WP 335 0 1233 L S h Q ↔ WP 335 0 1234 L (vI 1 :: S) h Q := wp_pl rfl rfl rfl
theorem s335_1234 : WP 335 0 1234 L (vI y :: vI x :: S) h Q ↔ WP 335 0 1235 L (vI (wr (x + y)) :: S) h Q := wp_pl rfl rfl rfl
theorem s335_1235 : WP 335 0 1235 L (vI x :: vA (some a) :: S) h Q ↔ (((hk h a).1 = 1 ∧ 0 ≤ x ∧ x < ((hk h a).2 : Int)) ∧ WP 335 0 1236 L (hm h a x.toNat :: S) h Q) := wp_if rfl rfl rfl
theorem s335_1236 : WP 335 0 1236 [vA r, a1, a2, a3, a4, a5, a6, a7] S h Q ↔ WP 335 0 1237 [vA r, a1, a2, a3, a4, a5, a6, a7] (vA r :: S) h Q := wp_aload rfl rfl
theorem s335_1237 : WP 335 0 1237 [a0, a1, a2, a3, vI x, a5, a6, a7] S h Q ↔ WP 335 0 1239 [a0, a1, a2, a3, vI x, a5, a6, a7] (vI x :: S) h Q := wp_iload rfl rfl
theorem s335_1239 : WP 335 0 1239 L S h Q ↔ WP 335 0 1240 L (vI 2 :: S) h Q := wp_pl rfl rfl rfl
theorem s335_1240 : WP 335 0 1240 L (vI y :: vI x :: S) h Q ↔ WP 335 0 1241 L (vI (wr (x + y)) :: S) h Q := wp_pl rfl rfl rfl
theorem s335_1241 : WP 335 0 1241 L (vI x :: vA (some a) :: S) h Q ↔ (((hk h a).1 = 1 ∧ 0 ≤ x ∧ x < ((hk h a).2 : Int)) ∧ WP 335 0 1242 L (hm h a x.toNat :: S) h Q) := wp_if rfl rfl rfl
theorem s335_1242 : WP 335 0 1242 [vA r, a1, a2, a3, a4, a5, a6, a7] S h Q ↔ WP 335 0 1243 [vA r, a1, a2, a3, a4, a5, a6, a7] (vA r :: S) h Q := wp_aload rfl rfl
theorem s335_1243 : WP 335 0 1243 [a0, a1, a2, a3, vI x, a5, a6, a7] S h Q ↔ WP 335 0 1245 [a0, a1, a2, a3, vI x, a5, a6, a7] (vI x :: S) h Q := wp_iload rfl rfl
theorem s335_1245 : WP 335 0 1245 L S h Q ↔ WP 335 0 1246 L (vI 3 :: S) h Q := wp_pl rfl rfl rfl
theorem s335_1246 : WP 335 0 1246 L (vI y :: vI x :: S) h Q ↔ WP 335 0 1247 L (vI (wr (x + y)) :: S) h Q := wp_pl rfl rfl rfl
theorem s335_1247 : WP 335 0 1247 L (vI x :: vA (some a) :: S) h Q ↔ (((hk h a).1 = 1 ∧ 0 ≤ x ∧ x < ((hk h a).2 : Int)) ∧ WP 335 0 1248 L (hm h a x.toNat :: S) h Q) := wp_if rfl rfl rfl
theorem s335_1248 : WP 335 0 1248 [a0, a1, a2, vA r, a4, a5, a6, a7] S h Q ↔ WP 335 0 1249 [a0, a1, a2, vA r, a4, a5, a6, a7] (vA r :: S) h Q := wp_aload rfl rfl
theorem s335_1249 : WP 335 0 1249 L (vA r4 :: vI x3 :: vI x2 :: vI x1 :: vA r0 :: S) h Q ↔ (zw S ≤ 8 ∧ WP 347 0 0 [vA r0, vI x1, vI x2, vI x3, vA r4, vJ] [] h (zret 335 0 1249 1252 L S Q)) := wp_S rfl rfl (zcan_of rfl rfl) rfl rfl rfl
theorem s335_1252 : WP 335 0 1252 [a0, a1, a2, a3, a4, a5, a6, a7] (vI x :: S) h Q ↔ WP 335 0 1254 [a0, a1, a2, a3, a4, vI x, a6, a7] S h Q := wp_istore rfl rfl rfl
theorem s335_1254 : WP 335 0 1254 [a0, a1, vA r, a3, a4, a5, a6, a7] S h Q ↔ WP 335 0 1255 [a0, a1, vA r, a3, a4, a5, a6, a7] (vA r :: S) h Q := wp_aload rfl rfl
theorem s335_1255 : WP 335 0 1255 [vA r, a1, a2, a3, a4, a5, a6, a7] S h Q ↔ WP 335 0 1256 [vA r, a1, a2, a3, a4, a5, a6, a7] (vA r :: S) h Q := wp_aload rfl rfl
theorem s335_1256 : WP 335 0 1256 [a0, a1, a2, a3, vI x, a5, a6, a7] S h Q ↔ WP 335 0 1258 [a0, a1, a2, a3, vI x, a5, a6, a7] (vI x :: S) h Q := wp_iload rfl rfl
theorem s335_1258 : WP 335 0 1258 L S h Q ↔ WP 335 0 1259 L (vI 1 :: S) h Q := wp_pl rfl rfl rfl
theorem s335_1259 : WP 335 0 1259 L (vI y :: vI x :: S) h Q ↔ WP 335 0 1260 L (vI (wr (x + y)) :: S) h Q := wp_pl rfl rfl rfl
theorem s335_1260 : WP 335 0 1260 L (vI x :: vA (some a) :: S) h Q ↔ (((hk h a).1 = 1 ∧ 0 ≤ x ∧ x < ((hk h a).2 : Int)) ∧ WP 335 0 1261 L (hm h a x.toNat :: S) h Q) := wp_if rfl rfl rfl
theorem s335_1261 : WP 335 0 1261 [vA r, a1, a2, a3, a4, a5, a6, a7] S h Q ↔ WP 335 0 1262 [vA r, a1, a2, a3, a4, a5, a6, a7] (vA r :: S) h Q := wp_aload rfl rfl
theorem s335_1262 : WP 335 0 1262 [a0, a1, a2, a3, vI x, a5, a6, a7] S h Q ↔ WP 335 0 1264 [a0, a1, a2, a3, vI x, a5, a6, a7] (vI x :: S) h Q := wp_iload rfl rfl
theorem s335_1264 : WP 335 0 1264 L S h Q ↔ WP 335 0 1265 L (vI 2 :: S) h Q := wp_pl rfl rfl rfl
theorem s335_1265 : WP 335 0 1265 L (vI y :: vI x :: S) h Q ↔ WP 335 0 1266 L (vI (wr (x + y)) :: S) h Q := wp_pl rfl rfl rfl
theorem s335_1266 : WP 335 0 1266 L (vI x :: vA (some a) :: S) h Q ↔ (((hk h a).1 = 1 ∧ 0 ≤ x ∧ x < ((hk h a).2 : Int)) ∧ WP 335 0 1267 L (hm h a x.toNat :: S) h Q) := wp_if rfl rfl rfl
theorem s335_1267 : WP 335 0 1267 [vA r, a1, a2, a3, a4, a5, a6, a7] S h Q ↔ WP 335 0 1268 [vA r, a1, a2, a3, a4, a5, a6, a7] (vA r :: S) h Q := wp_aload rfl rfl
theorem s335_1268 : WP 335 0 1268 [a0, a1, a2, a3, vI x, a5, a6, a7] S h Q ↔ WP 335 0 1270 [a0, a1, a2, a3, vI x, a5, a6, a7] (vI x :: S) h Q := wp_iload rfl rfl
theorem s335_1270 : WP 335 0 1270 L S h Q ↔ WP 335 0 1271 L (vI 3 :: S) h Q := wp_pl rfl rfl rfl
theorem s335_1271 : WP 335 0 1271 L (vI y :: vI x :: S) h Q ↔ WP 335 0 1272 L (vI (wr (x + y)) :: S) h Q := wp_pl rfl rfl rfl
theorem s335_1272 : WP 335 0 1272 L (vI x :: vA (some a) :: S) h Q ↔ (((hk h a).1 = 1 ∧ 0 ≤ x ∧ x < ((hk h a).2 : Int)) ∧ WP 335 0 1273 L (hm h a x.toNat :: S) h Q) := wp_if rfl rfl rfl
theorem s335_1273 : WP 335 0 1273 L (vI x2 :: vI x1 :: vI x0 :: vA (some a) :: S) h Q ↔ ((hk h a).1 = 110 ∧ (zw S ≤ 8 ∧ WP 181 0 0 [vA (some a), vI x0, vI x1, vI x2] [] h (zret 335 0 1273 1276 L S Q))) := wp_V1 (c := 110) rfl rfl (fun _ => rfl) rfl rfl (zcan_of rfl rfl) rfl rfl rfl
theorem s335_1276 : WP 335 0 1276 [a0, a1, a2, a3, a4, a5, a6, a7] (vI x :: S) h Q ↔ WP 335 0 1278 [a0, a1, a2, a3, a4, a5, vI x, a7] S h Q := wp_istore rfl rfl rfl
theorem s335_1278 : WP 335 0 1278 [a0, a1, vA r, a3, a4, a5, a6, a7] S h Q ↔ WP 335 0 1279 [a0, a1, vA r, a3, a4, a5, a6, a7] (vA r :: S) h Q := wp_aload rfl rfl
theorem s335_1279 : WP 335 0 1279 L (vA (some a) :: S) h Q ↔ ((hk h a).1 = 110 ∧ (zw S ≤ 8 ∧ WP 247 0 0 [vA (some a)] [] h (zret 335 0 1279 1282 L S Q))) := wp_V1 (c := 110) rfl rfl (fun _ => rfl) rfl rfl (zcan_of rfl rfl) rfl rfl rfl
theorem s335_1282 : WP 335 0 1282 [a0, a1, a2, a3, a4, vI x, a6, a7] S h Q ↔ WP 335 0 1284 [a0, a1, a2, a3, a4, vI x, a6, a7] (vI x :: S) h Q := wp_iload rfl rfl
theorem s335_1284 : WP 335 0 1284 L (vI y :: vI x :: S) h Q ↔ zif (x = y) (WP 335 0 1289 L S h Q) (WP 335 0 1287 L S h Q) := wp_bE zc_eq rfl rfl rfl
theorem s335_1287 : WP 335 0 1287 L S h Q ↔ WP 335 0 1288 L (vI 0 :: S) h Q := wp_pl rfl rfl rfl
theorem s335_1288 : WP 335 0 1288 L [vI x] h Q ↔ ((x = 0 ∨ x = 1) ∧ Q (.inl (some (vI x))) h) := wp_iret rfl rfl
theorem s335_1289 : WP 335 0 1289 [a0, a1, a2, a3, a4, vI x, a6, a7] S h Q ↔ WP 335 0 1291 [a0, a1, a2, a3, a4, vI x, a6, a7] (vI x :: S) h Q := wp_iload rfl rfl
theorem s335_1291 : WP 335 0 1291 L (vI x :: S) h Q ↔ zif (x = 0) (WP 335 0 1294 L S h Q) (WP 335 0 1306 L S h Q) := wp_bN zc_eq rfl rfl rfl
theorem s335_1294 : WP 335 0 1294 [a0, a1, a2, vA r, a4, a5, a6, a7] S h Q ↔ WP 335 0 1295 [a0, a1, a2, vA r, a4, a5, a6, a7] (vA r :: S) h Q := wp_aload rfl rfl
theorem s335_1295 : WP 335 0 1295 L S h Q ↔ WP 335 0 1296 L (vI 0 :: S) h Q := wp_pl rfl rfl rfl
theorem s335_1296 : WP 335 0 1296 L (vI x :: vA (some a) :: S) h Q ↔ (((hk h a).1 = 4 ∧ 0 ≤ x ∧ x < ((hk h a).2 : Int)) ∧ WP 335 0 1297 L (hm h a x.toNat :: S) h Q) := wp_if rfl rfl rfl
theorem s335_1297 : WP 335 0 1297 [a0, a1, a2, a3, a4, a5, vI x, a7] S h Q ↔ WP 335 0 1299 [a0, a1, a2, a3, a4, a5, vI x, a7] (vI x :: S) h Q := wp_iload rfl rfl
theorem s335_1299 : WP 335 0 1299 L (vI x :: S) h Q ↔ WP 335 0 1300 L (vL x :: S) h Q := wp_pl rfl rfl rfl
theorem s335_1300 : WP 335 0 1300 L (vL y :: vL x :: S) h Q ↔ WP 335 0 1301 L (vI (zlc x y) :: S) h Q := wp_pl rfl rfl rfl
theorem s335_1301 : WP 335 0 1301 L (vI x :: S) h Q ↔ zif (x = 0) (WP 335 0 1306 L S h Q) (WP 335 0 1304 L S h Q) := wp_bE zc_eq rfl rfl rfl
theorem s335_1304 : WP 335 0 1304 L S h Q ↔ WP 335 0 1305 L (vI 0 :: S) h Q := wp_pl rfl rfl rfl
theorem s335_1305 : WP 335 0 1305 L [vI x] h Q ↔ ((x = 0 ∨ x = 1) ∧ Q (.inl (some (vI x))) h) := wp_iret rfl rfl
theorem s335_1306 : WP 335 0 1306 L S h Q ↔ WP 335 0 2799 L S h Q := wp_pl rfl rfl rfl
theorem s335_1309 : WP 335 0 1309 [a0, vA r, a2, a3, a4, a5, a6, a7] S h Q ↔ WP 335 0 1310 [a0, vA r, a2, a3, a4, a5, a6, a7] (vA r :: S) h Q := wp_aload rfl rfl
theorem s335_1310 : WP 335 0 1310 [vA r, a1, a2, a3, a4, a5, a6, a7] S h Q ↔ WP 335 0 1311 [vA r, a1, a2, a3, a4, a5, a6, a7] (vA r :: S) h Q := wp_aload rfl rfl
theorem s335_1311 : WP 335 0 1311 [a0, a1, a2, a3, vI x, a5, a6, a7] S h Q ↔ WP 335 0 1313 [a0, a1, a2, a3, vI x, a5, a6, a7] (vI x :: S) h Q := wp_iload rfl rfl
theorem s335_1313 : WP 335 0 1313 L S h Q ↔ WP 335 0 1314 L (vI 1 :: S) h Q := wp_pl rfl rfl rfl
theorem s335_1314 : WP 335 0 1314 L (vI y :: vI x :: S) h Q ↔ WP 335 0 1315 L (vI (wr (x + y)) :: S) h Q := wp_pl rfl rfl rfl
theorem s335_1315 : WP 335 0 1315 L (vI x :: vA (some a) :: S) h Q ↔ (((hk h a).1 = 1 ∧ 0 ≤ x ∧ x < ((hk h a).2 : Int)) ∧ WP 335 0 1316 L (hm h a x.toNat :: S) h Q) := wp_if rfl rfl rfl
theorem s335_1316 : WP 335 0 1316 [vA r, a1, a2, a3, a4, a5, a6, a7] S h Q ↔ WP 335 0 1317 [vA r, a1, a2, a3, a4, a5, a6, a7] (vA r :: S) h Q := wp_aload rfl rfl
theorem s335_1317 : WP 335 0 1317 [a0, a1, a2, a3, vI x, a5, a6, a7] S h Q ↔ WP 335 0 1319 [a0, a1, a2, a3, vI x, a5, a6, a7] (vI x :: S) h Q := wp_iload rfl rfl
theorem s335_1319 : WP 335 0 1319 L S h Q ↔ WP 335 0 1320 L (vI 2 :: S) h Q := wp_pl rfl rfl rfl
theorem s335_1320 : WP 335 0 1320 L (vI y :: vI x :: S) h Q ↔ WP 335 0 1321 L (vI (wr (x + y)) :: S) h Q := wp_pl rfl rfl rfl
theorem s335_1321 : WP 335 0 1321 L (vI x :: vA (some a) :: S) h Q ↔ (((hk h a).1 = 1 ∧ 0 ≤ x ∧ x < ((hk h a).2 : Int)) ∧ WP 335 0 1322 L (hm h a x.toNat :: S) h Q) := wp_if rfl rfl rfl
theorem s335_1322 : WP 335 0 1322 [vA r, a1, a2, a3, a4, a5, a6, a7] S h Q ↔ WP 335 0 1323 [vA r, a1, a2, a3, a4, a5, a6, a7] (vA r :: S) h Q := wp_aload rfl rfl
theorem s335_1323 : WP 335 0 1323 [a0, a1, a2, a3, vI x, a5, a6, a7] S h Q ↔ WP 335 0 1325 [a0, a1, a2, a3, vI x, a5, a6, a7] (vI x :: S) h Q := wp_iload rfl rfl
theorem s335_1325 : WP 335 0 1325 L S h Q ↔ WP 335 0 1326 L (vI 3 :: S) h Q := wp_pl rfl rfl rfl
theorem s335_1326 : WP 335 0 1326 L (vI y :: vI x :: S) h Q ↔ WP 335 0 1327 L (vI (wr (x + y)) :: S) h Q := wp_pl rfl rfl rfl
theorem s335_1327 : WP 335 0 1327 L (vI x :: vA (some a) :: S) h Q ↔ (((hk h a).1 = 1 ∧ 0 ≤ x ∧ x < ((hk h a).2 : Int)) ∧ WP 335 0 1328 L (hm h a x.toNat :: S) h Q) := wp_if rfl rfl rfl
theorem s335_1328 : WP 335 0 1328 [a0, a1, a2, vA r, a4, a5, a6, a7] S h Q ↔ WP 335 0 1329 [a0, a1, a2, vA r, a4, a5, a6, a7] (vA r :: S) h Q := wp_aload rfl rfl
theorem s335_1329 : WP 335 0 1329 L (vA r4 :: vI x3 :: vI x2 :: vI x1 :: vA r0 :: S) h Q ↔ (zw S ≤ 8 ∧ WP 349 0 0 [vA r0, vI x1, vI x2, vI x3, vA r4, vJ] [] h (zret 335 0 1329 1332 L S Q)) := wp_S rfl rfl (zcan_of rfl rfl) rfl rfl rfl
theorem s335_1332 : WP 335 0 1332 [a0, a1, a2, a3, a4, a5, a6, a7] (vI x :: S) h Q ↔ WP 335 0 1334 [a0, a1, a2, a3, a4, vI x, a6, a7] S h Q := wp_istore rfl rfl rfl
theorem s335_1334 : WP 335 0 1334 [a0, a1, vA r, a3, a4, a5, a6, a7] S h Q ↔ WP 335 0 1335 [a0, a1, vA r, a3, a4, a5, a6, a7] (vA r :: S) h Q := wp_aload rfl rfl
theorem s335_1335 : WP 335 0 1335 [vA r, a1, a2, a3, a4, a5, a6, a7] S h Q ↔ WP 335 0 1336 [vA r, a1, a2, a3, a4, a5, a6, a7] (vA r :: S) h Q := wp_aload rfl rfl
theorem s335_1336 : WP 335 0 1336 [a0, a1, a2, a3, vI x, a5, a6, a7] S h Q ↔ WP 335 0 1338 [a0, a1, a2, a3, vI x, a5, a6, a7] (vI x :: S) h Q := wp_iload rfl rfl
theorem s335_1338 : WP 335 0 1338 L S h Q ↔ WP 335 0 1339 L (vI 1 :: S) h Q := wp_pl rfl rfl rfl
theorem s335_1339 : WP 335 0 1339 L (vI y :: vI x :: S) h Q ↔ WP 335 0 1340 L (vI (wr (x + y)) :: S) h Q := wp_pl rfl rfl rfl
theorem s335_1340 : WP 335 0 1340 L (vI x :: vA (some a) :: S) h Q ↔ (((hk h a).1 = 1 ∧ 0 ≤ x ∧ x < ((hk h a).2 : Int)) ∧ WP 335 0 1341 L (hm h a x.toNat :: S) h Q) := wp_if rfl rfl rfl
theorem s335_1341 : WP 335 0 1341 [vA r, a1, a2, a3, a4, a5, a6, a7] S h Q ↔ WP 335 0 1342 [vA r, a1, a2, a3, a4, a5, a6, a7] (vA r :: S) h Q := wp_aload rfl rfl
theorem s335_1342 : WP 335 0 1342 [a0, a1, a2, a3, vI x, a5, a6, a7] S h Q ↔ WP 335 0 1344 [a0, a1, a2, a3, vI x, a5, a6, a7] (vI x :: S) h Q := wp_iload rfl rfl
theorem s335_1344 : WP 335 0 1344 L S h Q ↔ WP 335 0 1345 L (vI 2 :: S) h Q := wp_pl rfl rfl rfl
theorem s335_1345 : WP 335 0 1345 L (vI y :: vI x :: S) h Q ↔ WP 335 0 1346 L (vI (wr (x + y)) :: S) h Q := wp_pl rfl rfl rfl
theorem s335_1346 : WP 335 0 1346 L (vI x :: vA (some a) :: S) h Q ↔ (((hk h a).1 = 1 ∧ 0 ≤ x ∧ x < ((hk h a).2 : Int)) ∧ WP 335 0 1347 L (hm h a x.toNat :: S) h Q) := wp_if rfl rfl rfl
theorem s335_1347 : WP 335 0 1347 [vA r, a1, a2, a3, a4, a5, a6, a7] S h Q ↔ WP 335 0 1348 [vA r, a1, a2, a3, a4, a5, a6, a7] (vA r :: S) h Q := wp_aload rfl rfl
theorem s335_1348 : WP 335 0 1348 [a0, a1, a2, a3, vI x, a5, a6, a7] S h Q ↔ WP 335 0 1350 [a0, a1, a2, a3, vI x, a5, a6, a7] (vI x :: S) h Q := wp_iload rfl rfl
theorem s335_1350 : WP 335 0 1350 L S h Q ↔ WP 335 0 1351 L (vI 3 :: S) h Q := wp_pl rfl rfl rfl
theorem s335_1351 : WP 335 0 1351 L (vI y :: vI x :: S) h Q ↔ WP 335 0 1352 L (vI (wr (x + y)) :: S) h Q := wp_pl rfl rfl rfl
theorem s335_1352 : WP 335 0 1352 L (vI x :: vA (some a) :: S) h Q ↔ (((hk h a).1 = 1 ∧ 0 ≤ x ∧ x < ((hk h a).2 : Int)) ∧ WP 335 0 1353 L (hm h a x.toNat :: S) h Q) := wp_if rfl rfl rfl
theorem s335_1353 : WP 335 0 1353 L (vI x2 :: vI x1 :: vI x0 :: vA (some a) :: S) h Q ↔ ((hk h a).1 = 110 ∧ (zw S ≤ 8 ∧ WP 199 0 0 [vA (some a), vI x0, vI x1, vI x2] [] h (zret 335 0 1353 1356 L S Q))) := wp_V1 (c := 110) rfl rfl (fun _ => rfl) rfl rfl (zcan_of rfl rfl) rfl rfl rfl
theorem s335_1356 : WP 335 0 1356 [a0, a1, a2, a3, a4, a5, a6, a7] (vL x :: S) h Q ↔ WP 335 0 1358 [a0, a1, a2, a3, a4, a5, vL x, vJ] S h Q := wp_lstore rfl rfl rfl
theorem s335_1358 : WP 335 0 1358 [a0, a1, vA r, a3, a4, a5, a6, a7] S h Q ↔ WP 335 0 1359 [a0, a1, vA r, a3, a4, a5, a6, a7] (vA r :: S) h Q := wp_aload rfl rfl
theorem s335_1359 : WP 335 0 1359 L (vA (some a) :: S) h Q ↔ ((hk h a).1 = 110 ∧ (zw S ≤ 8 ∧ WP 247 0 0 [vA (some a)] [] h (zret 335 0 1359 1362 L S Q))) := wp_V1 (c := 110) rfl rfl (fun _ => rfl) rfl rfl (zcan_of rfl rfl) rfl rfl rfl
theorem s335_1362 : WP 335 0 1362 [a0, a1, a2, a3, a4, vI x, a6, a7] S h Q ↔ WP 335 0 1364 [a0, a1, a2, a3, a4, vI x, a6, a7] (vI x :: S) h Q := wp_iload rfl rfl
theorem s335_1364 : WP 335 0 1364 L (vI y :: vI x :: S) h Q ↔ zif (x = y) (WP 335 0 1369 L S h Q) (WP 335 0 1367 L S h Q) := wp_bE zc_eq rfl rfl rfl
theorem s335_1367 : WP 335 0 1367 L S h Q ↔ WP 335 0 1368 L (vI 0 :: S) h Q := wp_pl rfl rfl rfl
theorem s335_1368 : WP 335 0 1368 L [vI x] h Q ↔ ((x = 0 ∨ x = 1) ∧ Q (.inl (some (vI x))) h) := wp_iret rfl rfl
theorem s335_1369 : WP 335 0 1369 [a0, a1, a2, a3, a4, vI x, a6, a7] S h Q ↔ WP 335 0 1371 [a0, a1, a2, a3, a4, vI x, a6, a7] (vI x :: S) h Q := wp_iload rfl rfl
theorem s335_1371 : WP 335 0 1371 L (vI x :: S) h Q ↔ zif (x = 0) (WP 335 0 1374 L S h Q) (WP 335 0 1385 L S h Q) := wp_bN zc_eq rfl rfl rfl
theorem s335_1374 : WP 335 0 1374 [a0, a1, a2, vA r, a4, a5, a6, a7] S h Q ↔ WP 335 0 1375 [a0, a1, a2, vA r, a4, a5, a6, a7] (vA r :: S) h Q := wp_aload rfl rfl
theorem s335_1375 : WP 335 0 1375 L S h Q ↔ WP 335 0 1376 L (vI 0 :: S) h Q := wp_pl rfl rfl rfl
theorem s335_1376 : WP 335 0 1376 L (vI x :: vA (some a) :: S) h Q ↔ (((hk h a).1 = 4 ∧ 0 ≤ x ∧ x < ((hk h a).2 : Int)) ∧ WP 335 0 1377 L (hm h a x.toNat :: S) h Q) := wp_if rfl rfl rfl
theorem s335_1377 : WP 335 0 1377 [a0, a1, a2, a3, a4, a5, vL x, vJ] S h Q ↔ WP 335 0 1379 [a0, a1, a2, a3, a4, a5, vL x, vJ] (vL x :: S) h Q := wp_lload rfl rfl rfl
theorem s335_1379 : WP 335 0 1379 L (vL y :: vL x :: S) h Q ↔ WP 335 0 1380 L (vI (zlc x y) :: S) h Q := wp_pl rfl rfl rfl
theorem s335_1380 : WP 335 0 1380 L (vI x :: S) h Q ↔ zif (x = 0) (WP 335 0 1385 L S h Q) (WP 335 0 1383 L S h Q) := wp_bE zc_eq rfl rfl rfl
theorem s335_1383 : WP 335 0 1383 L S h Q ↔ WP 335 0 1384 L (vI 0 :: S) h Q := wp_pl rfl rfl rfl
theorem s335_1384 : WP 335 0 1384 L [vI x] h Q ↔ ((x = 0 ∨ x = 1) ∧ Q (.inl (some (vI x))) h) := wp_iret rfl rfl
theorem s335_1385 : WP 335 0 1385 L S h Q ↔ WP 335 0 2799 L S h Q := wp_pl rfl rfl rfl
theorem s335_1388 : WP 335 0 1388 [a0, vA r, a2, a3, a4, a5, a6, a7] S h Q ↔ WP 335 0 1389 [a0, vA r, a2, a3, a4, a5, a6, a7] (vA r :: S) h Q := wp_aload rfl rfl
theorem s335_1389 : WP 335 0 1389 [vA r, a1, a2, a3, a4, a5, a6, a7] S h Q ↔ WP 335 0 1390 [vA r, a1, a2, a3, a4, a5, a6, a7] (vA r :: S) h Q := wp_aload rfl rfl
theorem s335_1390 : WP 335 0 1390 [a0, a1, a2, a3, vI x, a5, a6, a7] S h Q ↔ WP 335 0 1392 [a0, a1, a2, a3, vI x, a5, a6, a7] (vI x :: S) h Q := wp_iload rfl rfl
theorem s335_1392 : WP 335 0 1392 L S h Q ↔ WP 335 0 1393 L (vI 1 :: S) h Q := wp_pl rfl rfl rfl
theorem s335_1393 : WP 335 0 1393 L (vI y :: vI x :: S) h Q ↔ WP 335 0 1394 L (vI (wr (x + y)) :: S) h Q := wp_pl rfl rfl rfl
theorem s335_1394 : WP 335 0 1394 L (vI x :: vA (some a) :: S) h Q ↔ (((hk h a).1 = 1 ∧ 0 ≤ x ∧ x < ((hk h a).2 : Int)) ∧ WP 335 0 1395 L (hm h a x.toNat :: S) h Q) := wp_if rfl rfl rfl
theorem s335_1395 : WP 335 0 1395 [vA r, a1, a2, a3, a4, a5, a6, a7] S h Q ↔ WP 335 0 1396 [vA r, a1, a2, a3, a4, a5, a6, a7] (vA r :: S) h Q := wp_aload rfl rfl
theorem s335_1396 : WP 335 0 1396 [a0, a1, a2, a3, vI x, a5, a6, a7] S h Q ↔ WP 335 0 1398 [a0, a1, a2, a3, vI x, a5, a6, a7] (vI x :: S) h Q := wp_iload rfl rfl
theorem s335_1398 : WP 335 0 1398 L S h Q ↔ WP 335 0 1399 L (vI 2 :: S) h Q := wp_pl rfl rfl rfl
theorem s335_1399 : WP 335 0 1399 L (vI y :: vI x :: S) h Q ↔ WP 335 0 1400 L (vI (wr (x + y)) :: S) h Q := wp_pl rfl rfl rfl
theorem s335_1400 : WP 335 0 1400 L (vI x :: vA (some a) :: S) h Q ↔ (((hk h a).1 = 1 ∧ 0 ≤ x ∧ x < ((hk h a).2 : Int)) ∧ WP 335 0 1401 L (hm h a x.toNat :: S) h Q) := wp_if rfl rfl rfl
theorem s335_1401 : WP 335 0 1401 [vA r, a1, a2, a3, a4, a5, a6, a7] S h Q ↔ WP 335 0 1402 [vA r, a1, a2, a3, a4, a5, a6, a7] (vA r :: S) h Q := wp_aload rfl rfl
theorem s335_1402 : WP 335 0 1402 [a0, a1, a2, a3, vI x, a5, a6, a7] S h Q ↔ WP 335 0 1404 [a0, a1, a2, a3, vI x, a5, a6, a7] (vI x :: S) h Q := wp_iload rfl rfl
theorem s335_1404 : WP 335 0 1404 L S h Q ↔ WP 335 0 1405 L (vI 3 :: S) h Q := wp_pl rfl rfl rfl
theorem s335_1405 : WP 335 0 1405 L (vI y :: vI x :: S) h Q ↔ WP 335 0 1406 L (vI (wr (x + y)) :: S) h Q := wp_pl rfl rfl rfl
theorem s335_1406 : WP 335 0 1406 L (vI x :: vA (some a) :: S) h Q ↔ (((hk h a).1 = 1 ∧ 0 ≤ x ∧ x < ((hk h a).2 : Int)) ∧ WP 335 0 1407 L (hm h a x.toNat :: S) h Q) := wp_if rfl rfl rfl
theorem s335_1407 : WP 335 0 1407 [vA r, a1, a2, a3, a4, a5, a6, a7] S h Q ↔ WP 335 0 1408 [vA r, a1, a2, a3, a4, a5, a6, a7] (vA r :: S) h Q := wp_aload rfl rfl
theorem s335_1408 : WP 335 0 1408 [a0, a1, a2, a3, vI x, a5, a6, a7] S h Q ↔ WP 335 0 1410 [a0, a1, a2, a3, vI x, a5, a6, a7] (vI x :: S) h Q := wp_iload rfl rfl
theorem s335_1410 : WP 335 0 1410 L S h Q ↔ WP 335 0 1411 L (vI 4 :: S) h Q := wp_pl rfl rfl rfl
theorem s335_1411 : WP 335 0 1411 L (vI y :: vI x :: S) h Q ↔ WP 335 0 1412 L (vI (wr (x + y)) :: S) h Q := wp_pl rfl rfl rfl
theorem s335_1412 : WP 335 0 1412 L (vI x :: vA (some a) :: S) h Q ↔ (((hk h a).1 = 1 ∧ 0 ≤ x ∧ x < ((hk h a).2 : Int)) ∧ WP 335 0 1413 L (hm h a x.toNat :: S) h Q) := wp_if rfl rfl rfl
theorem s335_1413 : WP 335 0 1413 L (vI x :: S) h Q ↔ WP 335 0 1414 L (vL x :: S) h Q := wp_pl rfl rfl rfl
theorem s335_1414 : WP 335 0 1414 L S h Q ↔ WP 335 0 1416 L (vI 32 :: S) h Q := wp_pl rfl rfl rfl
theorem s335_1416 : WP 335 0 1416 L (vI y :: vL x :: S) h Q ↔ WP 335 0 1417 L (vL (zlshl x y) :: S) h Q := wp_pl rfl rfl rfl
theorem s335_1417 : WP 335 0 1417 [vA r, a1, a2, a3, a4, a5, a6, a7] S h Q ↔ WP 335 0 1418 [vA r, a1, a2, a3, a4, a5, a6, a7] (vA r :: S) h Q := wp_aload rfl rfl
theorem s335_1418 : WP 335 0 1418 [a0, a1, a2, a3, vI x, a5, a6, a7] S h Q ↔ WP 335 0 1420 [a0, a1, a2, a3, vI x, a5, a6, a7] (vI x :: S) h Q := wp_iload rfl rfl
theorem s335_1420 : WP 335 0 1420 L S h Q ↔ WP 335 0 1421 L (vI 5 :: S) h Q := wp_pl rfl rfl rfl
theorem s335_1421 : WP 335 0 1421 L (vI y :: vI x :: S) h Q ↔ WP 335 0 1422 L (vI (wr (x + y)) :: S) h Q := wp_pl rfl rfl rfl
theorem s335_1422 : WP 335 0 1422 L (vI x :: vA (some a) :: S) h Q ↔ (((hk h a).1 = 1 ∧ 0 ≤ x ∧ x < ((hk h a).2 : Int)) ∧ WP 335 0 1423 L (hm h a x.toNat :: S) h Q) := wp_if rfl rfl rfl
theorem s335_1423 : WP 335 0 1423 L (vI x :: S) h Q ↔ WP 335 0 1424 L (vL x :: S) h Q := wp_pl rfl rfl rfl
theorem s335_1424 : WP 335 0 1424 L S h Q ↔ WP 335 0 1427 L (vL (4294967295) :: S) h Q := wp_pl rfl rfl rfl
theorem s335_1427 : WP 335 0 1427 L (vL y :: vL x :: S) h Q ↔ WP 335 0 1428 L (vL (zland x y) :: S) h Q := wp_pl rfl rfl rfl
theorem s335_1428 : WP 335 0 1428 L (vL y :: vL x :: S) h Q ↔ WP 335 0 1429 L (vL (zlor x y) :: S) h Q := wp_pl rfl rfl rfl
theorem s335_1429 : WP 335 0 1429 [a0, a1, a2, vA r, a4, a5, a6, a7] S h Q ↔ WP 335 0 1430 [a0, a1, a2, vA r, a4, a5, a6, a7] (vA r :: S) h Q := wp_aload rfl rfl
theorem s335_1430 : WP 335 0 1430 L (vA r5 :: vL x4 :: vI x3 :: vI x2 :: vI x1 :: vA r0 :: S) h Q ↔ (zw S ≤ 8 ∧ WP 360 0 0 [vA r0, vI x1, vI x2, vI x3, vL x4, vJ, vA r5, vJ] [] h (zret 335 0 1430 1433 L S Q)) := wp_S rfl rfl (zcan_of rfl rfl) rfl rfl rfl
theorem s335_1433 : WP 335 0 1433 [a0, a1, a2, a3, a4, a5, a6, a7] (vI x :: S) h Q ↔ WP 335 0 1435 [a0, a1, a2, a3, a4, vI x, a6, a7] S h Q := wp_istore rfl rfl rfl
theorem s335_1435 : WP 335 0 1435 [a0, a1, vA r, a3, a4, a5, a6, a7] S h Q ↔ WP 335 0 1436 [a0, a1, vA r, a3, a4, a5, a6, a7] (vA r :: S) h Q := wp_aload rfl rfl
theorem s335_1436 : WP 335 0 1436 [vA r, a1, a2, a3, a4, a5, a6, a7] S h Q ↔ WP 335 0 1437 [vA r, a1, a2, a3, a4, a5, a6, a7] (vA r :: S) h Q := wp_aload rfl rfl
theorem s335_1437 : WP 335 0 1437 [a0, a1, a2, a3, vI x, a5, a6, a7] S h Q ↔ WP 335 0 1439 [a0, a1, a2, a3, vI x, a5, a6, a7] (vI x :: S) h Q := wp_iload rfl rfl
theorem s335_1439 : WP 335 0 1439 L S h Q ↔ WP 335 0 1440 L (vI 1 :: S) h Q := wp_pl rfl rfl rfl
theorem s335_1440 : WP 335 0 1440 L (vI y :: vI x :: S) h Q ↔ WP 335 0 1441 L (vI (wr (x + y)) :: S) h Q := wp_pl rfl rfl rfl
theorem s335_1441 : WP 335 0 1441 L (vI x :: vA (some a) :: S) h Q ↔ (((hk h a).1 = 1 ∧ 0 ≤ x ∧ x < ((hk h a).2 : Int)) ∧ WP 335 0 1442 L (hm h a x.toNat :: S) h Q) := wp_if rfl rfl rfl
theorem s335_1442 : WP 335 0 1442 [vA r, a1, a2, a3, a4, a5, a6, a7] S h Q ↔ WP 335 0 1443 [vA r, a1, a2, a3, a4, a5, a6, a7] (vA r :: S) h Q := wp_aload rfl rfl
theorem s335_1443 : WP 335 0 1443 [a0, a1, a2, a3, vI x, a5, a6, a7] S h Q ↔ WP 335 0 1445 [a0, a1, a2, a3, vI x, a5, a6, a7] (vI x :: S) h Q := wp_iload rfl rfl
theorem s335_1445 : WP 335 0 1445 L S h Q ↔ WP 335 0 1446 L (vI 2 :: S) h Q := wp_pl rfl rfl rfl
theorem s335_1446 : WP 335 0 1446 L (vI y :: vI x :: S) h Q ↔ WP 335 0 1447 L (vI (wr (x + y)) :: S) h Q := wp_pl rfl rfl rfl
theorem s335_1447 : WP 335 0 1447 L (vI x :: vA (some a) :: S) h Q ↔ (((hk h a).1 = 1 ∧ 0 ≤ x ∧ x < ((hk h a).2 : Int)) ∧ WP 335 0 1448 L (hm h a x.toNat :: S) h Q) := wp_if rfl rfl rfl
theorem s335_1448 : WP 335 0 1448 [vA r, a1, a2, a3, a4, a5, a6, a7] S h Q ↔ WP 335 0 1449 [vA r, a1, a2, a3, a4, a5, a6, a7] (vA r :: S) h Q := wp_aload rfl rfl
theorem s335_1449 : WP 335 0 1449 [a0, a1, a2, a3, vI x, a5, a6, a7] S h Q ↔ WP 335 0 1451 [a0, a1, a2, a3, vI x, a5, a6, a7] (vI x :: S) h Q := wp_iload rfl rfl
theorem s335_1451 : WP 335 0 1451 L S h Q ↔ WP 335 0 1452 L (vI 3 :: S) h Q := wp_pl rfl rfl rfl
theorem s335_1452 : WP 335 0 1452 L (vI y :: vI x :: S) h Q ↔ WP 335 0 1453 L (vI (wr (x + y)) :: S) h Q := wp_pl rfl rfl rfl
theorem s335_1453 : WP 335 0 1453 L (vI x :: vA (some a) :: S) h Q ↔ (((hk h a).1 = 1 ∧ 0 ≤ x ∧ x < ((hk h a).2 : Int)) ∧ WP 335 0 1454 L (hm h a x.toNat :: S) h Q) := wp_if rfl rfl rfl
theorem s335_1454 : WP 335 0 1454 [vA r, a1, a2, a3, a4, a5, a6, a7] S h Q ↔ WP 335 0 1455 [vA r, a1, a2, a3, a4, a5, a6, a7] (vA r :: S) h Q := wp_aload rfl rfl
theorem s335_1455 : WP 335 0 1455 [a0, a1, a2, a3, vI x, a5, a6, a7] S h Q ↔ WP 335 0 1457 [a0, a1, a2, a3, vI x, a5, a6, a7] (vI x :: S) h Q := wp_iload rfl rfl
theorem s335_1457 : WP 335 0 1457 L S h Q ↔ WP 335 0 1458 L (vI 4 :: S) h Q := wp_pl rfl rfl rfl
theorem s335_1458 : WP 335 0 1458 L (vI y :: vI x :: S) h Q ↔ WP 335 0 1459 L (vI (wr (x + y)) :: S) h Q := wp_pl rfl rfl rfl
theorem s335_1459 : WP 335 0 1459 L (vI x :: vA (some a) :: S) h Q ↔ (((hk h a).1 = 1 ∧ 0 ≤ x ∧ x < ((hk h a).2 : Int)) ∧ WP 335 0 1460 L (hm h a x.toNat :: S) h Q) := wp_if rfl rfl rfl
theorem s335_1460 : WP 335 0 1460 L (vI x :: S) h Q ↔ WP 335 0 1461 L (vL x :: S) h Q := wp_pl rfl rfl rfl
theorem s335_1461 : WP 335 0 1461 L S h Q ↔ WP 335 0 1463 L (vI 32 :: S) h Q := wp_pl rfl rfl rfl
theorem s335_1463 : WP 335 0 1463 L (vI y :: vL x :: S) h Q ↔ WP 335 0 1464 L (vL (zlshl x y) :: S) h Q := wp_pl rfl rfl rfl
theorem s335_1464 : WP 335 0 1464 [vA r, a1, a2, a3, a4, a5, a6, a7] S h Q ↔ WP 335 0 1465 [vA r, a1, a2, a3, a4, a5, a6, a7] (vA r :: S) h Q := wp_aload rfl rfl
theorem s335_1465 : WP 335 0 1465 [a0, a1, a2, a3, vI x, a5, a6, a7] S h Q ↔ WP 335 0 1467 [a0, a1, a2, a3, vI x, a5, a6, a7] (vI x :: S) h Q := wp_iload rfl rfl
theorem s335_1467 : WP 335 0 1467 L S h Q ↔ WP 335 0 1468 L (vI 5 :: S) h Q := wp_pl rfl rfl rfl
theorem s335_1468 : WP 335 0 1468 L (vI y :: vI x :: S) h Q ↔ WP 335 0 1469 L (vI (wr (x + y)) :: S) h Q := wp_pl rfl rfl rfl
theorem s335_1469 : WP 335 0 1469 L (vI x :: vA (some a) :: S) h Q ↔ (((hk h a).1 = 1 ∧ 0 ≤ x ∧ x < ((hk h a).2 : Int)) ∧ WP 335 0 1470 L (hm h a x.toNat :: S) h Q) := wp_if rfl rfl rfl
theorem s335_1470 : WP 335 0 1470 L (vI x :: S) h Q ↔ WP 335 0 1471 L (vL x :: S) h Q := wp_pl rfl rfl rfl
theorem s335_1471 : WP 335 0 1471 L S h Q ↔ WP 335 0 1474 L (vL (4294967295) :: S) h Q := wp_pl rfl rfl rfl
theorem s335_1474 : WP 335 0 1474 L (vL y :: vL x :: S) h Q ↔ WP 335 0 1475 L (vL (zland x y) :: S) h Q := wp_pl rfl rfl rfl
theorem s335_1475 : WP 335 0 1475 L (vL y :: vL x :: S) h Q ↔ WP 335 0 1476 L (vL (zlor x y) :: S) h Q := wp_pl rfl rfl rfl
theorem s335_1476 : WP 335 0 1476 L (vL x3 :: vI x2 :: vI x1 :: vI x0 :: vA (some a) :: S) h Q ↔ ((hk h a).1 = 110 ∧ (zw S ≤ 8 ∧ WP 235 0 0 [vA (some a), vI x0, vI x1, vI x2, vL x3, vJ] [] h (zret 335 0 1476 1479 L S Q))) := wp_V1 (c := 110) rfl rfl (fun _ => rfl) rfl rfl (zcan_of rfl rfl) rfl rfl rfl
theorem s335_1479 : WP 335 0 1479 [a0, a1, a2, a3, a4, a5, a6, a7] (vI x :: S) h Q ↔ WP 335 0 1481 [a0, a1, a2, a3, a4, a5, vI x, a7] S h Q := wp_istore rfl rfl rfl
theorem s335_1481 : WP 335 0 1481 [a0, a1, vA r, a3, a4, a5, a6, a7] S h Q ↔ WP 335 0 1482 [a0, a1, vA r, a3, a4, a5, a6, a7] (vA r :: S) h Q := wp_aload rfl rfl
theorem s335_1482 : WP 335 0 1482 L (vA (some a) :: S) h Q ↔ ((hk h a).1 = 110 ∧ (zw S ≤ 8 ∧ WP 247 0 0 [vA (some a)] [] h (zret 335 0 1482 1485 L S Q))) := wp_V1 (c := 110) rfl rfl (fun _ => rfl) rfl rfl (zcan_of rfl rfl) rfl rfl rfl
theorem s335_1485 : WP 335 0 1485 [a0, a1, a2, a3, a4, vI x, a6, a7] S h Q ↔ WP 335 0 1487 [a0, a1, a2, a3, a4, vI x, a6, a7] (vI x :: S) h Q := wp_iload rfl rfl
theorem s335_1487 : WP 335 0 1487 L (vI y :: vI x :: S) h Q ↔ zif (x = y) (WP 335 0 1492 L S h Q) (WP 335 0 1490 L S h Q) := wp_bE zc_eq rfl rfl rfl
theorem s335_1490 : WP 335 0 1490 L S h Q ↔ WP 335 0 1491 L (vI 0 :: S) h Q := wp_pl rfl rfl rfl
theorem s335_1491 : WP 335 0 1491 L [vI x] h Q ↔ ((x = 0 ∨ x = 1) ∧ Q (.inl (some (vI x))) h) := wp_iret rfl rfl
theorem s335_1492 : WP 335 0 1492 [a0, a1, a2, a3, a4, vI x, a6, a7] S h Q ↔ WP 335 0 1494 [a0, a1, a2, a3, a4, vI x, a6, a7] (vI x :: S) h Q := wp_iload rfl rfl
theorem s335_1494 : WP 335 0 1494 L (vI x :: S) h Q ↔ zif (x = 0) (WP 335 0 1497 L S h Q) (WP 335 0 1509 L S h Q) := wp_bN zc_eq rfl rfl rfl
theorem s335_1497 : WP 335 0 1497 [a0, a1, a2, vA r, a4, a5, a6, a7] S h Q ↔ WP 335 0 1498 [a0, a1, a2, vA r, a4, a5, a6, a7] (vA r :: S) h Q := wp_aload rfl rfl
theorem s335_1498 : WP 335 0 1498 L S h Q ↔ WP 335 0 1499 L (vI 0 :: S) h Q := wp_pl rfl rfl rfl
theorem s335_1499 : WP 335 0 1499 L (vI x :: vA (some a) :: S) h Q ↔ (((hk h a).1 = 4 ∧ 0 ≤ x ∧ x < ((hk h a).2 : Int)) ∧ WP 335 0 1500 L (hm h a x.toNat :: S) h Q) := wp_if rfl rfl rfl
theorem s335_1500 : WP 335 0 1500 [a0, a1, a2, a3, a4, a5, vI x, a7] S h Q ↔ WP 335 0 1502 [a0, a1, a2, a3, a4, a5, vI x, a7] (vI x :: S) h Q := wp_iload rfl rfl
theorem s335_1502 : WP 335 0 1502 L (vI x :: S) h Q ↔ WP 335 0 1503 L (vL x :: S) h Q := wp_pl rfl rfl rfl
theorem s335_1503 : WP 335 0 1503 L (vL y :: vL x :: S) h Q ↔ WP 335 0 1504 L (vI (zlc x y) :: S) h Q := wp_pl rfl rfl rfl
theorem s335_1504 : WP 335 0 1504 L (vI x :: S) h Q ↔ zif (x = 0) (WP 335 0 1509 L S h Q) (WP 335 0 1507 L S h Q) := wp_bE zc_eq rfl rfl rfl
theorem s335_1507 : WP 335 0 1507 L S h Q ↔ WP 335 0 1508 L (vI 0 :: S) h Q := wp_pl rfl rfl rfl
theorem s335_1508 : WP 335 0 1508 L [vI x] h Q ↔ ((x = 0 ∨ x = 1) ∧ Q (.inl (some (vI x))) h) := wp_iret rfl rfl
theorem s335_1509 : WP 335 0 1509 L S h Q ↔ WP 335 0 2799 L S h Q := wp_pl rfl rfl rfl
theorem s335_1512 : WP 335 0 1512 [a0, vA r, a2, a3, a4, a5, a6, a7] S h Q ↔ WP 335 0 1513 [a0, vA r, a2, a3, a4, a5, a6, a7] (vA r :: S) h Q := wp_aload rfl rfl
theorem s335_1513 : WP 335 0 1513 [vA r, a1, a2, a3, a4, a5, a6, a7] S h Q ↔ WP 335 0 1514 [vA r, a1, a2, a3, a4, a5, a6, a7] (vA r :: S) h Q := wp_aload rfl rfl
theorem s335_1514 : WP 335 0 1514 [a0, a1, a2, a3, vI x, a5, a6, a7] S h Q ↔ WP 335 0 1516 [a0, a1, a2, a3, vI x, a5, a6, a7] (vI x :: S) h Q := wp_iload rfl rfl
theorem s335_1516 : WP 335 0 1516 L S h Q ↔ WP 335 0 1517 L (vI 1 :: S) h Q := wp_pl rfl rfl rfl
theorem s335_1517 : WP 335 0 1517 L (vI y :: vI x :: S) h Q ↔ WP 335 0 1518 L (vI (wr (x + y)) :: S) h Q := wp_pl rfl rfl rfl
theorem s335_1518 : WP 335 0 1518 L (vI x :: vA (some a) :: S) h Q ↔ (((hk h a).1 = 1 ∧ 0 ≤ x ∧ x < ((hk h a).2 : Int)) ∧ WP 335 0 1519 L (hm h a x.toNat :: S) h Q) := wp_if rfl rfl rfl
theorem s335_1519 : WP 335 0 1519 [vA r, a1, a2, a3, a4, a5, a6, a7] S h Q ↔ WP 335 0 1520 [vA r, a1, a2, a3, a4, a5, a6, a7] (vA r :: S) h Q := wp_aload rfl rfl
theorem s335_1520 : WP 335 0 1520 [a0, a1, a2, a3, vI x, a5, a6, a7] S h Q ↔ WP 335 0 1522 [a0, a1, a2, a3, vI x, a5, a6, a7] (vI x :: S) h Q := wp_iload rfl rfl
theorem s335_1522 : WP 335 0 1522 L S h Q ↔ WP 335 0 1523 L (vI 2 :: S) h Q := wp_pl rfl rfl rfl
theorem s335_1523 : WP 335 0 1523 L (vI y :: vI x :: S) h Q ↔ WP 335 0 1524 L (vI (wr (x + y)) :: S) h Q := wp_pl rfl rfl rfl
theorem s335_1524 : WP 335 0 1524 L (vI x :: vA (some a) :: S) h Q ↔ (((hk h a).1 = 1 ∧ 0 ≤ x ∧ x < ((hk h a).2 : Int)) ∧ WP 335 0 1525 L (hm h a x.toNat :: S) h Q) := wp_if rfl rfl rfl
theorem s335_1525 : WP 335 0 1525 [vA r, a1, a2, a3, a4, a5, a6, a7] S h Q ↔ WP 335 0 1526 [vA r, a1, a2, a3, a4, a5, a6, a7] (vA r :: S) h Q := wp_aload rfl rfl
theorem s335_1526 : WP 335 0 1526 [a0, a1, a2, a3, vI x, a5, a6, a7] S h Q ↔ WP 335 0 1528 [a0, a1, a2, a3, vI x, a5, a6, a7] (vI x :: S) h Q := wp_iload rfl rfl
theorem s335_1528 : WP 335 0 1528 L S h Q ↔ WP 335 0 1529 L (vI 3 :: S) h Q := wp_pl rfl rfl rfl
theorem s335_1529 : WP 335 0 1529 L (vI y :: vI x :: S) h Q ↔ WP 335 0 1530 L (vI (wr (x + y)) :: S) h Q := wp_pl rfl rfl rfl
theorem s335_1530 : WP 335 0 1530 L (vI x :: vA (some a) :: S) h Q ↔ (((hk h a).1 = 1 ∧ 0 ≤ x ∧ x < ((hk h a).2 : Int)) ∧ WP 335 0 1531 L (hm h a x.toNat :: S) h Q) := wp_if rfl rfl rfl
theorem s335_1531 : WP 335 0 1531 [vA r, a1, a2, a3, a4, a5, a6, a7] S h Q ↔ WP 335 0 1532 [vA r, a1, a2, a3, a4, a5, a6, a7] (vA r :: S) h Q := wp_aload rfl rfl
theorem s335_1532 : WP 335 0 1532 [a0, a1, a2, a3, vI x, a5, a6, a7] S h Q ↔ WP 335 0 1534 [a0, a1, a2, a3, vI x, a5, a6, a7] (vI x :: S) h Q := wp_iload rfl rfl
theorem s335_1534 : WP 335 0 1534 L S h Q ↔ WP 335 0 1535 L (vI 4 :: S) h Q := wp_pl rfl rfl rfl
theorem s335_1535 : WP 335 0 1535 L (vI y :: vI x :: S) h Q ↔ WP 335 0 1536 L (vI (wr (x + y)) :: S) h Q := wp_pl rfl rfl rfl
theorem s335_1536 : WP 335 0 1536 L (vI x :: vA (some a) :: S) h Q ↔ (((hk h a).1 = 1 ∧ 0 ≤ x ∧ x < ((hk h a).2 : Int)) ∧ WP 335 0 1537 L (hm h a x.toNat :: S) h Q) := wp_if rfl rfl rfl
theorem s335_1537 : WP 335 0 1537 [a0, a1, a2, vA r, a4, a5, a6, a7] S h Q ↔ WP 335 0 1538 [a0, a1, a2, vA r, a4, a5, a6, a7] (vA r :: S) h Q := wp_aload rfl rfl
theorem s335_1538 : WP 335 0 1538 L (vA r5 :: vI x4 :: vI x3 :: vI x2 :: vI x1 :: vA r0 :: S) h Q ↔ (zw S ≤ 8 ∧ WP 357 0 0 [vA r0, vI x1, vI x2, vI x3, vI x4, vA r5, vJ] [] h (zret 335 0 1538 1541 L S Q)) := wp_S rfl rfl (zcan_of rfl rfl) rfl rfl rfl
theorem s335_1541 : WP 335 0 1541 [a0, a1, a2, a3, a4, a5, a6, a7] (vI x :: S) h Q ↔ WP 335 0 1543 [a0, a1, a2, a3, a4, vI x, a6, a7] S h Q := wp_istore rfl rfl rfl
theorem s335_1543 : WP 335 0 1543 [a0, a1, vA r, a3, a4, a5, a6, a7] S h Q ↔ WP 335 0 1544 [a0, a1, vA r, a3, a4, a5, a6, a7] (vA r :: S) h Q := wp_aload rfl rfl
theorem s335_1544 : WP 335 0 1544 [vA r, a1, a2, a3, a4, a5, a6, a7] S h Q ↔ WP 335 0 1545 [vA r, a1, a2, a3, a4, a5, a6, a7] (vA r :: S) h Q := wp_aload rfl rfl
theorem s335_1545 : WP 335 0 1545 [a0, a1, a2, a3, vI x, a5, a6, a7] S h Q ↔ WP 335 0 1547 [a0, a1, a2, a3, vI x, a5, a6, a7] (vI x :: S) h Q := wp_iload rfl rfl
theorem s335_1547 : WP 335 0 1547 L S h Q ↔ WP 335 0 1548 L (vI 1 :: S) h Q := wp_pl rfl rfl rfl
theorem s335_1548 : WP 335 0 1548 L (vI y :: vI x :: S) h Q ↔ WP 335 0 1549 L (vI (wr (x + y)) :: S) h Q := wp_pl rfl rfl rfl
theorem s335_1549 : WP 335 0 1549 L (vI x :: vA (some a) :: S) h Q ↔ (((hk h a).1 = 1 ∧ 0 ≤ x ∧ x < ((hk h a).2 : Int)) ∧ WP 335 0 1550 L (hm h a x.toNat :: S) h Q) := wp_if rfl rfl rfl
theorem s335_1550 : WP 335 0 1550 [vA r, a1, a2, a3, a4, a5, a6, a7] S h Q ↔ WP 335 0 1551 [vA r, a1, a2, a3, a4, a5, a6, a7] (vA r :: S) h Q := wp_aload rfl rfl
theorem s335_1551 : WP 335 0 1551 [a0, a1, a2, a3, vI x, a5, a6, a7] S h Q ↔ WP 335 0 1553 [a0, a1, a2, a3, vI x, a5, a6, a7] (vI x :: S) h Q := wp_iload rfl rfl
theorem s335_1553 : WP 335 0 1553 L S h Q ↔ WP 335 0 1554 L (vI 2 :: S) h Q := wp_pl rfl rfl rfl
theorem s335_1554 : WP 335 0 1554 L (vI y :: vI x :: S) h Q ↔ WP 335 0 1555 L (vI (wr (x + y)) :: S) h Q := wp_pl rfl rfl rfl
theorem s335_1555 : WP 335 0 1555 L (vI x :: vA (some a) :: S) h Q ↔ (((hk h a).1 = 1 ∧ 0 ≤ x ∧ x < ((hk h a).2 : Int)) ∧ WP 335 0 1556 L (hm h a x.toNat :: S) h Q) := wp_if rfl rfl rfl
theorem s335_1556 : WP 335 0 1556 [vA r, a1, a2, a3, a4, a5, a6, a7] S h Q ↔ WP 335 0 1557 [vA r, a1, a2, a3, a4, a5, a6, a7] (vA r :: S) h Q := wp_aload rfl rfl
theorem s335_1557 : WP 335 0 1557 [a0, a1, a2, a3, vI x, a5, a6, a7] S h Q ↔ WP 335 0 1559 [a0, a1, a2, a3, vI x, a5, a6, a7] (vI x :: S) h Q := wp_iload rfl rfl
theorem s335_1559 : WP 335 0 1559 L S h Q ↔ WP 335 0 1560 L (vI 3 :: S) h Q := wp_pl rfl rfl rfl
theorem s335_1560 : WP 335 0 1560 L (vI y :: vI x :: S) h Q ↔ WP 335 0 1561 L (vI (wr (x + y)) :: S) h Q := wp_pl rfl rfl rfl
theorem s335_1561 : WP 335 0 1561 L (vI x :: vA (some a) :: S) h Q ↔ (((hk h a).1 = 1 ∧ 0 ≤ x ∧ x < ((hk h a).2 : Int)) ∧ WP 335 0 1562 L (hm h a x.toNat :: S) h Q) := wp_if rfl rfl rfl
theorem s335_1562 : WP 335 0 1562 [vA r, a1, a2, a3, a4, a5, a6, a7] S h Q ↔ WP 335 0 1563 [vA r, a1, a2, a3, a4, a5, a6, a7] (vA r :: S) h Q := wp_aload rfl rfl
theorem s335_1563 : WP 335 0 1563 [a0, a1, a2, a3, vI x, a5, a6, a7] S h Q ↔ WP 335 0 1565 [a0, a1, a2, a3, vI x, a5, a6, a7] (vI x :: S) h Q := wp_iload rfl rfl
theorem s335_1565 : WP 335 0 1565 L S h Q ↔ WP 335 0 1566 L (vI 4 :: S) h Q := wp_pl rfl rfl rfl
theorem s335_1566 : WP 335 0 1566 L (vI y :: vI x :: S) h Q ↔ WP 335 0 1567 L (vI (wr (x + y)) :: S) h Q := wp_pl rfl rfl rfl
theorem s335_1567 : WP 335 0 1567 L (vI x :: vA (some a) :: S) h Q ↔ (((hk h a).1 = 1 ∧ 0 ≤ x ∧ x < ((hk h a).2 : Int)) ∧ WP 335 0 1568 L (hm h a x.toNat :: S) h Q) := wp_if rfl rfl rfl
theorem s335_1568 : WP 335 0 1568 L (vI x3 :: vI x2 :: vI x1 :: vI x0 :: vA (some a) :: S) h Q ↔ ((hk h a).1 = 110 ∧ (zw S ≤ 8 ∧ WP 228 0 0 [vA (some a), vI x0, vI x1, vI x2, vI x3] [] h (zret 335 0 1568 1571 L S Q))) := wp_V1 (c := 110) rfl rfl (fun _ => rfl) rfl rfl (zcan_of rfl rfl) rfl rfl rfl
theorem s335_1571 : WP 335 0 1571 [a0, a1, a2, a3, a4, a5, a6, a7] (vL x :: S) h Q ↔ WP 335 0 1573 [a0, a1, a2, a3, a4, a5, vL x, vJ] S h Q := wp_lstore rfl rfl rfl
theorem s335_1573 : WP 335 0 1573 [a0, a1, vA r, a3, a4, a5, a6, a7] S h Q ↔ WP 335 0 1574 [a0, a1, vA r, a3, a4, a5, a6, a7] (vA r :: S) h Q := wp_aload rfl rfl
theorem s335_1574 : WP 335 0 1574 L (vA (some a) :: S) h Q ↔ ((hk h a).1 = 110 ∧ (zw S ≤ 8 ∧ WP 247 0 0 [vA (some a)] [] h (zret 335 0 1574 1577 L S Q))) := wp_V1 (c := 110) rfl rfl (fun _ => rfl) rfl rfl (zcan_of rfl rfl) rfl rfl rfl
theorem s335_1577 : WP 335 0 1577 [a0, a1, a2, a3, a4, vI x, a6, a7] S h Q ↔ WP 335 0 1579 [a0, a1, a2, a3, a4, vI x, a6, a7] (vI x :: S) h Q := wp_iload rfl rfl
theorem s335_1579 : WP 335 0 1579 L (vI y :: vI x :: S) h Q ↔ zif (x = y) (WP 335 0 1584 L S h Q) (WP 335 0 1582 L S h Q) := wp_bE zc_eq rfl rfl rfl
theorem s335_1582 : WP 335 0 1582 L S h Q ↔ WP 335 0 1583 L (vI 0 :: S) h Q := wp_pl rfl rfl rfl
theorem s335_1583 : WP 335 0 1583 L [vI x] h Q ↔ ((x = 0 ∨ x = 1) ∧ Q (.inl (some (vI x))) h) := wp_iret rfl rfl
theorem s335_1584 : WP 335 0 1584 [a0, a1, a2, a3, a4, vI x, a6, a7] S h Q ↔ WP 335 0 1586 [a0, a1, a2, a3, a4, vI x, a6, a7] (vI x :: S) h Q := wp_iload rfl rfl
theorem s335_1586 : WP 335 0 1586 L (vI x :: S) h Q ↔ zif (x = 0) (WP 335 0 1589 L S h Q) (WP 335 0 1600 L S h Q) := wp_bN zc_eq rfl rfl rfl
theorem s335_1589 : WP 335 0 1589 [a0, a1, a2, vA r, a4, a5, a6, a7] S h Q ↔ WP 335 0 1590 [a0, a1, a2, vA r, a4, a5, a6, a7] (vA r :: S) h Q := wp_aload rfl rfl
theorem s335_1590 : WP 335 0 1590 L S h Q ↔ WP 335 0 1591 L (vI 0 :: S) h Q := wp_pl rfl rfl rfl
theorem s335_1591 : WP 335 0 1591 L (vI x :: vA (some a) :: S) h Q ↔ (((hk h a).1 = 4 ∧ 0 ≤ x ∧ x < ((hk h a).2 : Int)) ∧ WP 335 0 1592 L (hm h a x.toNat :: S) h Q) := wp_if rfl rfl rfl
theorem s335_1592 : WP 335 0 1592 [a0, a1, a2, a3, a4, a5, vL x, vJ] S h Q ↔ WP 335 0 1594 [a0, a1, a2, a3, a4, a5, vL x, vJ] (vL x :: S) h Q := wp_lload rfl rfl rfl
theorem s335_1594 : WP 335 0 1594 L (vL y :: vL x :: S) h Q ↔ WP 335 0 1595 L (vI (zlc x y) :: S) h Q := wp_pl rfl rfl rfl
theorem s335_1595 : WP 335 0 1595 L (vI x :: S) h Q ↔ zif (x = 0) (WP 335 0 1600 L S h Q) (WP 335 0 1598 L S h Q) := wp_bE zc_eq rfl rfl rfl
theorem s335_1598 : WP 335 0 1598 L S h Q ↔ WP 335 0 1599 L (vI 0 :: S) h Q := wp_pl rfl rfl rfl
theorem s335_1599 : WP 335 0 1599 L [vI x] h Q ↔ ((x = 0 ∨ x = 1) ∧ Q (.inl (some (vI x))) h) := wp_iret rfl rfl
theorem s335_1600 : WP 335 0 1600 L S h Q ↔ WP 335 0 2799 L S h Q := wp_pl rfl rfl rfl
theorem s335_1603 : WP 335 0 1603 [a0, vA r, a2, a3, a4, a5, a6, a7] S h Q ↔ WP 335 0 1604 [a0, vA r, a2, a3, a4, a5, a6, a7] (vA r :: S) h Q := wp_aload rfl rfl
theorem s335_1604 : WP 335 0 1604 [vA r, a1, a2, a3, a4, a5, a6, a7] S h Q ↔ WP 335 0 1605 [vA r, a1, a2, a3, a4, a5, a6, a7] (vA r :: S) h Q := wp_aload rfl rfl
theorem s335_1605 : WP 335 0 1605 [a0, a1, a2, a3, vI x, a5, a6, a7] S h Q ↔ WP 335 0 1607 [a0, a1, a2, a3, vI x, a5, a6, a7] (vI x :: S) h Q := wp_iload rfl rfl
theorem s335_1607 : WP 335 0 1607 L S h Q ↔ WP 335 0 1608 L (vI 1 :: S) h Q := wp_pl rfl rfl rfl
theorem s335_1608 : WP 335 0 1608 L (vI y :: vI x :: S) h Q ↔ WP 335 0 1609 L (vI (wr (x + y)) :: S) h Q := wp_pl rfl rfl rfl
theorem s335_1609 : WP 335 0 1609 L (vI x :: vA (some a) :: S) h Q ↔ (((hk h a).1 = 1 ∧ 0 ≤ x ∧ x < ((hk h a).2 : Int)) ∧ WP 335 0 1610 L (hm h a x.toNat :: S) h Q) := wp_if rfl rfl rfl
theorem s335_1610 : WP 335 0 1610 [vA r, a1, a2, a3, a4, a5, a6, a7] S h Q ↔ WP 335 0 1611 [vA r, a1, a2, a3, a4, a5, a6, a7] (vA r :: S) h Q := wp_aload rfl rfl
theorem s335_1611 : WP 335 0 1611 [a0, a1, a2, a3, vI x, a5, a6, a7] S h Q ↔ WP 335 0 1613 [a0, a1, a2, a3, vI x, a5, a6, a7] (vI x :: S) h Q := wp_iload rfl rfl
theorem s335_1613 : WP 335 0 1613 L S h Q ↔ WP 335 0 1614 L (vI 2 :: S) h Q := wp_pl rfl rfl rfl
theorem s335_1614 : WP 335 0 1614 L (vI y :: vI x :: S) h Q ↔ WP 335 0 1615 L (vI (wr (x + y)) :: S) h Q := wp_pl rfl rfl rfl
theorem s335_1615 : WP 335 0 1615 L (vI x :: vA (some a) :: S) h Q ↔ (((hk h a).1 = 1 ∧ 0 ≤ x ∧ x < ((hk h a).2 : Int)) ∧ WP 335 0 1616 L (hm h a x.toNat :: S) h Q) := wp_if rfl rfl rfl
theorem s335_1616 : WP 335 0 1616 [a0, a1, a2, vA r, a4, a5, a6, a7] S h Q ↔ WP 335 0 1617 [a0, a1, a2, vA r, a4, a5, a6, a7] (vA r :: S) h Q := wp_aload rfl rfl
theorem s335_1617 : WP 335 0 1617 L (vA r3 :: vI x2 :: vI x1 :: vA r0 :: S) h Q ↔ (zw S ≤ 8 ∧ WP 348 0 0 [vA r0, vI x1, vI x2, vA r3, vJ] [] h (zret 335 0 1617 1620 L S Q)) := wp_S rfl rfl (zcan_of rfl rfl) rfl rfl rfl
theorem s335_1620 : WP 335 0 1620 [a0, a1, a2, a3, a4, a5, a6, a7] (vI x :: S) h Q ↔ WP 335 0 1622 [a0, a1, a2, a3, a4, vI x, a6, a7] S h Q := wp_istore rfl rfl rfl
theorem s335_1622 : WP 335 0 1622 [a0, a1, vA r, a3, a4, a5, a6, a7] S h Q ↔ WP 335 0 1623 [a0, a1, vA r, a3, a4, a5, a6, a7] (vA r :: S) h Q := wp_aload rfl rfl
theorem s335_1623 : WP 335 0 1623 [vA r, a1, a2, a3, a4, a5, a6, a7] S h Q ↔ WP 335 0 1624 [vA r, a1, a2, a3, a4, a5, a6, a7] (vA r :: S) h Q := wp_aload rfl rfl
theorem s335_1624 : WP 335 0 1624 [a0, a1, a2, a3, vI x, a5, a6, a7] S h Q ↔ WP 335 0 1626 [a0, a1, a2, a3, vI x, a5, a6, a7] (vI x :: S) h Q := wp_iload rfl rfl
theorem s335_1626 : WP 335 0 1626 L S h Q ↔ WP 335 0 1627 L (vI 1 :: S) h Q := wp_pl rfl rfl rfl
theorem s335_1627 : WP 335 0 1627 L (vI y :: vI x :: S) h Q ↔ WP 335 0 1628 L (vI (wr (x + y)) :: S) h Q := wp_pl rfl rfl rfl
theorem s335_1628 : WP 335 0 1628 L (vI x :: vA (some a) :: S) h Q ↔ (((hk h a).1 = 1 ∧ 0 ≤ x ∧ x < ((hk h a).2 : Int)) ∧ WP 335 0 1629 L (hm h a x.toNat :: S) h Q) := wp_if rfl rfl rfl
theorem s335_1629 : WP 335 0 1629 [vA r, a1, a2, a3, a4, a5, a6, a7] S h Q ↔ WP 335 0 1630 [vA r, a1, a2, a3, a4, a5, a6, a7] (vA r :: S) h Q := wp_aload rfl rfl
theorem s335_1630 : WP 335 0 1630 [a0, a1, a2, a3, vI x, a5, a6, a7] S h Q ↔ WP 335 0 1632 [a0, a1, a2, a3, vI x, a5, a6, a7] (vI x :: S) h Q := wp_iload rfl rfl
theorem s335_1632 : WP 335 0 1632 L S h Q ↔ WP 335 0 1633 L (vI 2 :: S) h Q := wp_pl rfl rfl rfl
theorem s335_1633 : WP 335 0 1633 L (vI y :: vI x :: S) h Q ↔ WP 335 0 1634 L (vI (wr (x + y)) :: S) h Q := wp_pl rfl rfl rfl
theorem s335_1634 : WP 335 0 1634 L (vI x :: vA (some a) :: S) h Q ↔ (((hk h a).1 = 1 ∧ 0 ≤ x ∧ x < ((hk h a).2 : Int)) ∧ WP 335 0 1635 L (hm h a x.toNat :: S) h Q) := wp_if rfl rfl rfl
theorem s335_1635 : WP 335 0 1635 L (vI x1 :: vI x0 :: vA (some a) :: S) h Q ↔ ((hk h a).1 = 110 ∧ (zw S ≤ 8 ∧ WP 194 0 0 [vA (some a), vI x0, vI x1] [] h (zret 335 0 1635 1638 L S Q))) := wp_V1 (c := 110) rfl rfl (fun _ => rfl) rfl rfl (zcan_of rfl rfl) rfl rfl rfl
theorem s335_1638 : WP 335 0 1638 [a0, a1, a2, a3, a4, a5, a6, a7] (vI x :: S) h Q ↔ WP 335 0 1640 [a0, a1, a2, a3, a4, a5, vI x, a7] S h Q := wp_istore rfl rfl rfl
theorem s335_1640 : WP 335 0 1640 [a0, a1, vA r, a3, a4, a5, a6, a7] S h Q ↔ WP 335 0 1641 [a0, a1, vA r, a3, a4, a5, a6, a7] (vA r :: S) h Q := wp_aload rfl rfl
theorem s335_1641 : WP 335 0 1641 L (vA (some a) :: S) h Q ↔ ((hk h a).1 = 110 ∧ (zw S ≤ 8 ∧ WP 247 0 0 [vA (some a)] [] h (zret 335 0 1641 1644 L S Q))) := wp_V1 (c := 110) rfl rfl (fun _ => rfl) rfl rfl (zcan_of rfl rfl) rfl rfl rfl
theorem s335_1644 : WP 335 0 1644 [a0, a1, a2, a3, a4, vI x, a6, a7] S h Q ↔ WP 335 0 1646 [a0, a1, a2, a3, a4, vI x, a6, a7] (vI x :: S) h Q := wp_iload rfl rfl
theorem s335_1646 : WP 335 0 1646 L (vI y :: vI x :: S) h Q ↔ zif (x = y) (WP 335 0 1651 L S h Q) (WP 335 0 1649 L S h Q) := wp_bE zc_eq rfl rfl rfl
theorem s335_1649 : WP 335 0 1649 L S h Q ↔ WP 335 0 1650 L (vI 0 :: S) h Q := wp_pl rfl rfl rfl
theorem s335_1650 : WP 335 0 1650 L [vI x] h Q ↔ ((x = 0 ∨ x = 1) ∧ Q (.inl (some (vI x))) h) := wp_iret rfl rfl
theorem s335_1651 : WP 335 0 1651 [a0, a1, a2, a3, a4, vI x, a6, a7] S h Q ↔ WP 335 0 1653 [a0, a1, a2, a3, a4, vI x, a6, a7] (vI x :: S) h Q := wp_iload rfl rfl
theorem s335_1653 : WP 335 0 1653 L (vI x :: S) h Q ↔ zif (x = 0) (WP 335 0 1656 L S h Q) (WP 335 0 1668 L S h Q) := wp_bN zc_eq rfl rfl rfl
theorem s335_1656 : WP 335 0 1656 [a0, a1, a2, vA r, a4, a5, a6, a7] S h Q ↔ WP 335 0 1657 [a0, a1, a2, vA r, a4, a5, a6, a7] (vA r :: S) h Q := wp_aload rfl rfl
theorem s335_1657 : WP 335 0 1657 L S h Q ↔ WP 335 0 1658 L (vI 0 :: S) h Q := wp_pl rfl rfl rfl
theorem s335_1658 : WP 335 0 1658 L (vI x :: vA (some a) :: S) h Q ↔ (((hk h a).1 = 4 ∧ 0 ≤ x ∧ x < ((hk h a).2 : Int)) ∧ WP 335 0 1659 L (hm h a x.toNat :: S) h Q) := wp_if rfl rfl rfl
theorem s335_1659 : WP 335 0 1659 [a0, a1, a2, a3, a4, a5, vI x, a7] S h Q ↔ WP 335 0 1661 [a0, a1, a2, a3, a4, a5, vI x, a7] (vI x :: S) h Q := wp_iload rfl rfl
theorem s335_1661 : WP 335 0 1661 L (vI x :: S) h Q ↔ WP 335 0 1662 L (vL x :: S) h Q := wp_pl rfl rfl rfl
theorem s335_1662 : WP 335 0 1662 L (vL y :: vL x :: S) h Q ↔ WP 335 0 1663 L (vI (zlc x y) :: S) h Q := wp_pl rfl rfl rfl
theorem s335_1663 : WP 335 0 1663 L (vI x :: S) h Q ↔ zif (x = 0) (WP 335 0 1668 L S h Q) (WP 335 0 1666 L S h Q) := wp_bE zc_eq rfl rfl rfl
theorem s335_1666 : WP 335 0 1666 L S h Q ↔ WP 335 0 1667 L (vI 0 :: S) h Q := wp_pl rfl rfl rfl
theorem s335_1667 : WP 335 0 1667 L [vI x] h Q ↔ ((x = 0 ∨ x = 1) ∧ Q (.inl (some (vI x))) h) := wp_iret rfl rfl
theorem s335_1668 : WP 335 0 1668 L S h Q ↔ WP 335 0 2799 L S h Q := wp_pl rfl rfl rfl
theorem s335_1671 : WP 335 0 1671 [a0, vA r, a2, a3, a4, a5, a6, a7] S h Q ↔ WP 335 0 1672 [a0, vA r, a2, a3, a4, a5, a6, a7] (vA r :: S) h Q := wp_aload rfl rfl
theorem s335_1672 : WP 335 0 1672 [vA r, a1, a2, a3, a4, a5, a6, a7] S h Q ↔ WP 335 0 1673 [vA r, a1, a2, a3, a4, a5, a6, a7] (vA r :: S) h Q := wp_aload rfl rfl
theorem s335_1673 : WP 335 0 1673 [a0, a1, a2, a3, vI x, a5, a6, a7] S h Q ↔ WP 335 0 1675 [a0, a1, a2, a3, vI x, a5, a6, a7] (vI x :: S) h Q := wp_iload rfl rfl
theorem s335_1675 : WP 335 0 1675 L S h Q ↔ WP 335 0 1676 L (vI 1 :: S) h Q := wp_pl rfl rfl rfl
theorem s335_1676 : WP 335 0 1676 L (vI y :: vI x :: S) h Q ↔ WP 335 0 1677 L (vI (wr (x + y)) :: S) h Q := wp_pl rfl rfl rfl
theorem s335_1677 : WP 335 0 1677 L (vI x :: vA (some a) :: S) h Q ↔ (((hk h a).1 = 1 ∧ 0 ≤ x ∧ x < ((hk h a).2 : Int)) ∧ WP 335 0 1678 L (hm h a x.toNat :: S) h Q) := wp_if rfl rfl rfl
theorem s335_1678 : WP 335 0 1678 [vA r, a1, a2, a3, a4, a5, a6, a7] S h Q ↔ WP 335 0 1679 [vA r, a1, a2, a3, a4, a5, a6, a7] (vA r :: S) h Q := wp_aload rfl rfl
theorem s335_1679 : WP 335 0 1679 [a0, a1, a2, a3, vI x, a5, a6, a7] S h Q ↔ WP 335 0 1681 [a0, a1, a2, a3, vI x, a5, a6, a7] (vI x :: S) h Q := wp_iload rfl rfl
theorem s335_1681 : WP 335 0 1681 L S h Q ↔ WP 335 0 1682 L (vI 2 :: S) h Q := wp_pl rfl rfl rfl
theorem s335_1682 : WP 335 0 1682 L (vI y :: vI x :: S) h Q ↔ WP 335 0 1683 L (vI (wr (x + y)) :: S) h Q := wp_pl rfl rfl rfl
theorem s335_1683 : WP 335 0 1683 L (vI x :: vA (some a) :: S) h Q ↔ (((hk h a).1 = 1 ∧ 0 ≤ x ∧ x < ((hk h a).2 : Int)) ∧ WP 335 0 1684 L (hm h a x.toNat :: S) h Q) := wp_if rfl rfl rfl
theorem s335_1684 : WP 335 0 1684 [a0, a1, a2, vA r, a4, a5, a6, a7] S h Q ↔ WP 335 0 1685 [a0, a1, a2, vA r, a4, a5, a6, a7] (vA r :: S) h Q := wp_aload rfl rfl
theorem s335_1685 : WP 335 0 1685 L (vA r3 :: vI x2 :: vI x1 :: vA r0 :: S) h Q ↔ (zw S ≤ 8 ∧ WP 337 0 0 [vA r0, vI x1, vI x2, vA r3, vJ] [] h (zret 335 0 1685 1688 L S Q)) := wp_S rfl rfl (zcan_of rfl rfl) rfl rfl rfl
theorem s335_1688 : WP 335 0 1688 [a0, a1, a2, a3, a4, a5, a6, a7] (vI x :: S) h Q ↔ WP 335 0 1690 [a0, a1, a2, a3, a4, vI x, a6, a7] S h Q := wp_istore rfl rfl rfl
theorem s335_1690 : WP 335 0 1690 [a0, a1, vA r, a3, a4, a5, a6, a7] S h Q ↔ WP 335 0 1691 [a0, a1, vA r, a3, a4, a5, a6, a7] (vA r :: S) h Q := wp_aload rfl rfl
theorem s335_1691 : WP 335 0 1691 [vA r, a1, a2, a3, a4, a5, a6, a7] S h Q ↔ WP 335 0 1692 [vA r, a1, a2, a3, a4, a5, a6, a7] (vA r :: S) h Q := wp_aload rfl rfl
theorem s335_1692 : WP 335 0 1692 [a0, a1, a2, a3, vI x, a5, a6, a7] S h Q ↔ WP 335 0 1694 [a0, a1, a2, a3, vI x, a5, a6, a7] (vI x :: S) h Q := wp_iload rfl rfl
theorem s335_1694 : WP 335 0 1694 L S h Q ↔ WP 335 0 1695 L (vI 1 :: S) h Q := wp_pl rfl rfl rfl
theorem s335_1695 : WP 335 0 1695 L (vI y :: vI x :: S) h Q ↔ WP 335 0 1696 L (vI (wr (x + y)) :: S) h Q := wp_pl rfl rfl rfl
theorem s335_1696 : WP 335 0 1696 L (vI x :: vA (some a) :: S) h Q ↔ (((hk h a).1 = 1 ∧ 0 ≤ x ∧ x < ((hk h a).2 : Int)) ∧ WP 335 0 1697 L (hm h a x.toNat :: S) h Q) := wp_if rfl rfl rfl
theorem s335_1697 : WP 335 0 1697 [vA r, a1, a2, a3, a4, a5, a6, a7] S h Q ↔ WP 335 0 1698 [vA r, a1, a2, a3, a4, a5, a6, a7] (vA r :: S) h Q := wp_aload rfl rfl
theorem s335_1698 : WP 335 0 1698 [a0, a1, a2, a3, vI x, a5, a6, a7] S h Q ↔ WP 335 0 1700 [a0, a1, a2, a3, vI x, a5, a6, a7] (vI x :: S) h Q := wp_iload rfl rfl
theorem s335_1700 : WP 335 0 1700 L S h Q ↔ WP 335 0 1701 L (vI 2 :: S) h Q := wp_pl rfl rfl rfl
theorem s335_1701 : WP 335 0 1701 L (vI y :: vI x :: S) h Q ↔ WP 335 0 1702 L (vI (wr (x + y)) :: S) h Q := wp_pl rfl rfl rfl
theorem s335_1702 : WP 335 0 1702 L (vI x :: vA (some a) :: S) h Q ↔ (((hk h a).1 = 1 ∧ 0 ≤ x ∧ x < ((hk h a).2 : Int)) ∧ WP 335 0 1703 L (hm h a x.toNat :: S) h Q) := wp_if rfl rfl rfl
theorem s335_1703 : WP 335 0 1703 L (vI x1 :: vI x0 :: vA (some a) :: S) h Q ↔ ((hk h a).1 = 110 ∧ (zw S ≤ 8 ∧ WP 147 0 0 [vA (some a), vI x0, vI x1, vJ, vJ] [] h (zret 335 0 1703 1706 L S Q))) := wp_V1 (c := 110) rfl rfl (fun _ => rfl) rfl rfl (zcan_of rfl rfl) rfl rfl rfl
theorem s335_1706 : WP 335 0 1706 [a0, a1, a2, a3, a4, a5, a6, a7] (vI x :: S) h Q ↔ WP 335 0 1708 [a0, a1, a2, a3, a4, a5, vI x, a7] S h Q := wp_istore rfl rfl rfl
theorem s335_1708 : WP 335 0 1708 [a0, a1, vA r, a3, a4, a5, a6, a7] S h Q ↔ WP 335 0 1709 [a0, a1, vA r, a3, a4, a5, a6, a7] (vA r :: S) h Q := wp_aload rfl rfl
theorem s335_1709 : WP 335 0 1709 L (vA (some a) :: S) h Q ↔ ((hk h a).1 = 110 ∧ (zw S ≤ 8 ∧ WP 247 0 0 [vA (some a)] [] h (zret 335 0 1709 1712 L S Q))) := wp_V1 (c := 110) rfl rfl (fun _ => rfl) rfl rfl (zcan_of rfl rfl) rfl rfl rfl
theorem s335_1712 : WP 335 0 1712 [a0, a1, a2, a3, a4, vI x, a6, a7] S h Q ↔ WP 335 0 1714 [a0, a1, a2, a3, a4, vI x, a6, a7] (vI x :: S) h Q := wp_iload rfl rfl
theorem s335_1714 : WP 335 0 1714 L (vI y :: vI x :: S) h Q ↔ zif (x = y) (WP 335 0 1719 L S h Q) (WP 335 0 1717 L S h Q) := wp_bE zc_eq rfl rfl rfl
theorem s335_1717 : WP 335 0 1717 L S h Q ↔ WP 335 0 1718 L (vI 0 :: S) h Q := wp_pl rfl rfl rfl
theorem s335_1718 : WP 335 0 1718 L [vI x] h Q ↔ ((x = 0 ∨ x = 1) ∧ Q (.inl (some (vI x))) h) := wp_iret rfl rfl
theorem s335_1719 : WP 335 0 1719 [a0, a1, a2, a3, a4, vI x, a6, a7] S h Q ↔ WP 335 0 1721 [a0, a1, a2, a3, a4, vI x, a6, a7] (vI x :: S) h Q := wp_iload rfl rfl
theorem s335_1721 : WP 335 0 1721 L (vI x :: S) h Q ↔ zif (x = 0) (WP 335 0 1724 L S h Q) (WP 335 0 1736 L S h Q) := wp_bN zc_eq rfl rfl rfl
theorem s335_1724 : WP 335 0 1724 [a0, a1, a2, vA r, a4, a5, a6, a7] S h Q ↔ WP 335 0 1725 [a0, a1, a2, vA r, a4, a5, a6, a7] (vA r :: S) h Q := wp_aload rfl rfl
theorem s335_1725 : WP 335 0 1725 L S h Q ↔ WP 335 0 1726 L (vI 0 :: S) h Q := wp_pl rfl rfl rfl
theorem s335_1726 : WP 335 0 1726 L (vI x :: vA (some a) :: S) h Q ↔ (((hk h a).1 = 4 ∧ 0 ≤ x ∧ x < ((hk h a).2 : Int)) ∧ WP 335 0 1727 L (hm h a x.toNat :: S) h Q) := wp_if rfl rfl rfl
theorem s335_1727 : WP 335 0 1727 [a0, a1, a2, a3, a4, a5, vI x, a7] S h Q ↔ WP 335 0 1729 [a0, a1, a2, a3, a4, a5, vI x, a7] (vI x :: S) h Q := wp_iload rfl rfl
theorem s335_1729 : WP 335 0 1729 L (vI x :: S) h Q ↔ WP 335 0 1730 L (vL x :: S) h Q := wp_pl rfl rfl rfl
theorem s335_1730 : WP 335 0 1730 L (vL y :: vL x :: S) h Q ↔ WP 335 0 1731 L (vI (zlc x y) :: S) h Q := wp_pl rfl rfl rfl
theorem s335_1731 : WP 335 0 1731 L (vI x :: S) h Q ↔ zif (x = 0) (WP 335 0 1736 L S h Q) (WP 335 0 1734 L S h Q) := wp_bE zc_eq rfl rfl rfl
theorem s335_1734 : WP 335 0 1734 L S h Q ↔ WP 335 0 1735 L (vI 0 :: S) h Q := wp_pl rfl rfl rfl
theorem s335_1735 : WP 335 0 1735 L [vI x] h Q ↔ ((x = 0 ∨ x = 1) ∧ Q (.inl (some (vI x))) h) := wp_iret rfl rfl
theorem s335_1736 : WP 335 0 1736 L S h Q ↔ WP 335 0 2799 L S h Q := wp_pl rfl rfl rfl
theorem s335_1739 : WP 335 0 1739 [a0, vA r, a2, a3, a4, a5, a6, a7] S h Q ↔ WP 335 0 1740 [a0, vA r, a2, a3, a4, a5, a6, a7] (vA r :: S) h Q := wp_aload rfl rfl
theorem s335_1740 : WP 335 0 1740 [vA r, a1, a2, a3, a4, a5, a6, a7] S h Q ↔ WP 335 0 1741 [vA r, a1, a2, a3, a4, a5, a6, a7] (vA r :: S) h Q := wp_aload rfl rfl
theorem s335_1741 : WP 335 0 1741 [a0, a1, a2, a3, vI x, a5, a6, a7] S h Q ↔ WP 335 0 1743 [a0, a1, a2, a3, vI x, a5, a6, a7] (vI x :: S) h Q := wp_iload rfl rfl
theorem s335_1743 : WP 335 0 1743 L S h Q ↔ WP 335 0 1744 L (vI 1 :: S) h Q := wp_pl rfl rfl rfl
theorem s335_1744 : WP 335 0 1744 L (vI y :: vI x :: S) h Q ↔ WP 335 0 1745 L (vI (wr (x + y)) :: S) h Q := wp_pl rfl rfl rfl
theorem s335_1745 : WP 335 0 1745 L (vI x :: vA (some a) :: S) h Q ↔ (((hk h a).1 = 1 ∧ 0 ≤ x ∧ x < ((hk h a).2 : Int)) ∧ WP 335 0 1746 L (hm h a x.toNat :: S) h Q) := wp_if rfl rfl rfl
theorem s335_1746 : WP 335 0 1746 [a0, a1, a2, vA r, a4, a5, a6, a7] S h Q ↔ WP 335 0 1747 [a0, a1, a2, vA r, a4, a5, a6, a7] (vA r :: S) h Q := wp_aload rfl rfl
theorem s335_1747 : WP 335 0 1747 L (vA r2 :: vI x1 :: vA r0 :: S) h Q ↔ (zw S ≤ 8 ∧ WP 344 0 0 [vA r0, vI x1, vA r2, vJ] [] h (zret 335 0 1747 1750 L S Q)) := wp_S rfl rfl (zcan_of rfl rfl) rfl rfl rfl
theorem s335_1750 : WP 335 0 1750 [a0, a1, a2, a3, a4, a5, a6, a7] (vI x :: S) h Q ↔ WP 335 0 1752 [a0, a1, a2, a3, a4, vI x, a6, a7] S h Q := wp_istore rfl rfl rfl
theorem s335_1752 : WP 335 0 1752 [a0, a1, vA r, a3, a4, a5, a6, a7] S h Q ↔ WP 335 0 1753 [a0, a1, vA r, a3, a4, a5, a6, a7] (vA r :: S) h Q := wp_aload rfl rfl
theorem s335_1753 : WP 335 0 1753 [vA r, a1, a2, a3, a4, a5, a6, a7] S h Q ↔ WP 335 0 1754 [vA r, a1, a2, a3, a4, a5, a6, a7] (vA r :: S) h Q := wp_aload rfl rfl
theorem s335_1754 : WP 335 0 1754 [a0, a1, a2, a3, vI x, a5, a6, a7] S h Q ↔ WP 335 0 1756 [a0, a1, a2, a3, vI x, a5, a6, a7] (vI x :: S) h Q := wp_iload rfl rfl
theorem s335_1756 : WP 335 0 1756 L S h Q ↔ WP 335 0 1757 L (vI 1 :: S) h Q := wp_pl rfl rfl rfl
theorem s335_1757 : WP 335 0 1757 L (vI y :: vI x :: S) h Q ↔ WP 335 0 1758 L (vI (wr (x + y)) :: S) h Q := wp_pl rfl rfl rfl
theorem s335_1758 : WP 335 0 1758 L (vI x :: vA (some a) :: S) h Q ↔ (((hk h a).1 = 1 ∧ 0 ≤ x ∧ x < ((hk h a).2 : Int)) ∧ WP 335 0 1759 L (hm h a x.toNat :: S) h Q) := wp_if rfl rfl rfl
theorem s335_1759 : WP 335 0 1759 L (vI x0 :: vA (some a) :: S) h Q ↔ ((hk h a).1 = 110 ∧ (zw S ≤ 8 ∧ WP 175 0 0 [vA (some a), vI x0, vJ, vJ] [] h (zret 335 0 1759 1762 L S Q))) := wp_V1 (c := 110) rfl rfl (fun _ => rfl) rfl rfl (zcan_of rfl rfl) rfl rfl rfl
theorem s335_1762 : WP 335 0 1762 [a0, a1, a2, a3, a4, a5, a6, a7] (vI x :: S) h Q ↔ WP 335 0 1764 [a0, a1, a2, a3, a4, a5, vI x, a7] S h Q := wp_istore rfl rfl rfl
theorem s335_1764 : WP 335 0 1764 [a0, a1, vA r, a3, a4, a5, a6, a7] S h Q ↔ WP 335 0 1765 [a0, a1, vA r, a3, a4, a5, a6, a7] (vA r :: S) h Q := wp_aload rfl rfl
theorem s335_1765 : WP 335 0 1765 L (vA (some a) :: S) h Q ↔ ((hk h a).1 = 110 ∧ (zw S ≤ 8 ∧ WP 247 0 0 [vA (some a)] [] h (zret 335 0 1765 1768 L S Q))) := wp_V1 (c := 110) rfl rfl (fun _ => rfl) rfl rfl (zcan_of rfl rfl) rfl rfl rfl
theorem s335_1768 : WP 335 0 1768 [a0, a1, a2, a3, a4, vI x, a6, a7] S h Q ↔ WP 335 0 1770 [a0, a1, a2, a3, a4, vI x, a6, a7] (vI x :: S) h Q := wp_iload rfl rfl
theorem s335_1770 : WP 335 0 1770 L (vI y :: vI x :: S) h Q ↔ zif (x = y) (WP 335 0 1775 L S h Q) (WP 335 0 1773 L S h Q) := wp_bE zc_eq rfl rfl rfl
theorem s335_1773 : WP 335 0 1773 L S h Q ↔ WP 335 0 1774 L (vI 0 :: S) h Q := wp_pl rfl rfl rfl
theorem s335_1774 : WP 335 0 1774 L [vI x] h Q ↔ ((x = 0 ∨ x = 1) ∧ Q (.inl (some (vI x))) h) := wp_iret rfl rfl
theorem s335_1775 : WP 335 0 1775 [a0, a1, a2, a3, a4, vI x, a6, a7] S h Q ↔ WP 335 0 1777 [a0, a1, a2, a3, a4, vI x, a6, a7] (vI x :: S) h Q := wp_iload rfl rfl
theorem s335_1777 : WP 335 0 1777 L (vI x :: S) h Q ↔ zif (x = 0) (WP 335 0 1780 L S h Q) (WP 335 0 1792 L S h Q) := wp_bN zc_eq rfl rfl rfl
theorem s335_1780 : WP 335 0 1780 [a0, a1, a2, vA r, a4, a5, a6, a7] S h Q ↔ WP 335 0 1781 [a0, a1, a2, vA r, a4, a5, a6, a7] (vA r :: S) h Q := wp_aload rfl rfl
theorem s335_1781 : WP 335 0 1781 L S h Q ↔ WP 335 0 1782 L (vI 0 :: S) h Q := wp_pl rfl rfl rfl
theorem s335_1782 : WP 335 0 1782 L (vI x :: vA (some a) :: S) h Q ↔ (((hk h a).1 = 4 ∧ 0 ≤ x ∧ x < ((hk h a).2 : Int)) ∧ WP 335 0 1783 L (hm h a x.toNat :: S) h Q) := wp_if rfl rfl rfl
theorem s335_1783 : WP 335 0 1783 [a0, a1, a2, a3, a4, a5, vI x, a7] S h Q ↔ WP 335 0 1785 [a0, a1, a2, a3, a4, a5, vI x, a7] (vI x :: S) h Q := wp_iload rfl rfl
theorem s335_1785 : WP 335 0 1785 L (vI x :: S) h Q ↔ WP 335 0 1786 L (vL x :: S) h Q := wp_pl rfl rfl rfl
theorem s335_1786 : WP 335 0 1786 L (vL y :: vL x :: S) h Q ↔ WP 335 0 1787 L (vI (zlc x y) :: S) h Q := wp_pl rfl rfl rfl
theorem s335_1787 : WP 335 0 1787 L (vI x :: S) h Q ↔ zif (x = 0) (WP 335 0 1792 L S h Q) (WP 335 0 1790 L S h Q) := wp_bE zc_eq rfl rfl rfl
theorem s335_1790 : WP 335 0 1790 L S h Q ↔ WP 335 0 1791 L (vI 0 :: S) h Q := wp_pl rfl rfl rfl
theorem s335_1791 : WP 335 0 1791 L [vI x] h Q ↔ ((x = 0 ∨ x = 1) ∧ Q (.inl (some (vI x))) h) := wp_iret rfl rfl
theorem s335_1792 : WP 335 0 1792 L S h Q ↔ WP 335 0 2799 L S h Q := wp_pl rfl rfl rfl
theorem s335_1795 : WP 335 0 1795 [a0, vA r, a2, a3, a4, a5, a6, a7] S h Q ↔ WP 335 0 1796 [a0, vA r, a2, a3, a4, a5, a6, a7] (vA r :: S) h Q := wp_aload rfl rfl
theorem s335_1796 : WP 335 0 1796 [vA r, a1, a2, a3, a4, a5, a6, a7] S h Q ↔ WP 335 0 1797 [vA r, a1, a2, a3, a4, a5, a6, a7] (vA r :: S) h Q := wp_aload rfl rfl
theorem s335_1797 : WP 335 0 1797 [a0, a1, a2, a3, vI x, a5, a6, a7] S h Q ↔ WP 335 0 1799 [a0, a1, a2, a3, vI x, a5, a6, a7] (vI x :: S) h Q := wp_iload rfl rfl
theorem s335_1799 : WP 335 0 1799 L S h Q ↔ WP 335 0 1800 L (vI 1 :: S) h Q := wp_pl rfl rfl rfl
theorem s335_1800 : WP 335 0 1800 L (vI y :: vI x :: S) h Q ↔ WP 335 0 1801 L (vI (wr (x + y)) :: S) h Q := wp_pl rfl rfl rfl
theorem s335_1801 : WP 335 0 1801 L (vI x :: vA (some a) :: S) h Q ↔ (((hk h a).1 = 1 ∧ 0 ≤ x ∧ x < ((hk h a).2 : Int)) ∧ WP 335 0 1802 L (hm h a x.toNat :: S) h Q) := wp_if rfl rfl rfl
theorem s335_1802 : WP 335 0 1802 [a0, a1, a2, vA r, a4, a5, a6, a7] S h Q ↔ WP 335 0 1803 [a0, a1, a2, vA r, a4, a5, a6, a7] (vA r :: S) h Q := wp_aload rfl rfl
theorem s335_1803 : WP 335 0 1803 L (vA r2 :: vI x1 :: vA r0 :: S) h Q ↔ (zw S ≤ 8 ∧ WP 367 0 0 [vA r0, vI x1, vA r2, vJ] [] h (zret 335 0 1803 1806 L S Q)) := wp_S rfl rfl (zcan_of rfl rfl) rfl rfl rfl
theorem s335_1806 : WP 335 0 1806 [a0, a1, a2, a3, a4, a5, a6, a7] (vI x :: S) h Q ↔ WP 335 0 1808 [a0, a1, a2, a3, a4, vI x, a6, a7] S h Q := wp_istore rfl rfl rfl
theorem s335_1808 : WP 335 0 1808 [a0, a1, vA r, a3, a4, a5, a6, a7] S h Q ↔ WP 335 0 1809 [a0, a1, vA r, a3, a4, a5, a6, a7] (vA r :: S) h Q := wp_aload rfl rfl
theorem s335_1809 : WP 335 0 1809 [vA r, a1, a2, a3, a4, a5, a6, a7] S h Q ↔ WP 335 0 1810 [vA r, a1, a2, a3, a4, a5, a6, a7] (vA r :: S) h Q := wp_aload rfl rfl
theorem s335_1810 : WP 335 0 1810 [a0, a1, a2, a3, vI x, a5, a6, a7] S h Q ↔ WP 335 0 1812 [a0, a1, a2, a3, vI x, a5, a6, a7] (vI x :: S) h Q := wp_iload rfl rfl
theorem s335_1812 : WP 335 0 1812 L S h Q ↔ WP 335 0 1813 L (vI 1 :: S) h Q := wp_pl rfl rfl rfl
theorem s335_1813 : WP 335 0 1813 L (vI y :: vI x :: S) h Q ↔ WP 335 0 1814 L (vI (wr (x + y)) :: S) h Q := wp_pl rfl rfl rfl
theorem s335_1814 : WP 335 0 1814 L (vI x :: vA (some a) :: S) h Q ↔ (((hk h a).1 = 1 ∧ 0 ≤ x ∧ x < ((hk h a).2 : Int)) ∧ WP 335 0 1815 L (hm h a x.toNat :: S) h Q) := wp_if rfl rfl rfl
theorem s335_1815 : WP 335 0 1815 L (vI x0 :: vA (some a) :: S) h Q ↔ ((hk h a).1 = 110 ∧ (zw S ≤ 8 ∧ WP 251 0 0 [vA (some a), vI x0, vJ] [] h (zret 335 0 1815 1818 L S Q))) := wp_V1 (c := 110) rfl rfl (fun _ => rfl) rfl rfl (zcan_of rfl rfl) rfl rfl rfl
theorem s335_1818 : WP 335 0 1818 [a0, a1, a2, a3, a4, a5, a6, a7] (vI x :: S) h Q ↔ WP 335 0 1820 [a0, a1, a2, a3, a4, a5, vI x, a7] S h Q := wp_istore rfl rfl rfl
theorem s335_1820 : WP 335 0 1820 [a0, a1, vA r, a3, a4, a5, a6, a7] S h Q ↔ WP 335 0 1821 [a0, a1, vA r, a3, a4, a5, a6, a7] (vA r :: S) h Q := wp_aload rfl rfl
theorem s335_1821 : WP 335 0 1821 L (vA (some a) :: S) h Q ↔ ((hk h a).1 = 110 ∧ (zw S ≤ 8 ∧ WP 247 0 0 [vA (some a)] [] h (zret 335 0 1821 1824 L S Q))) := wp_V1 (c := 110) rfl rfl (fun _ => rfl) rfl rfl (zcan_of rfl rfl) rfl rfl rfl
theorem s335_1824 : WP 335 0 1824 [a0, a1, a2, a3, a4, vI x, a6, a7] S h Q ↔ WP 335 0 1826 [a0, a1, a2, a3, a4, vI x, a6, a7] (vI x :: S) h Q := wp_iload rfl rfl
theorem s335_1826 : WP 335 0 1826 L (vI y :: vI x :: S) h Q ↔ zif (x = y) (WP 335 0 1831 L S h Q) (WP 335 0 1829 L S h Q) := wp_bE zc_eq rfl rfl rfl
theorem s335_1829 : WP 335 0 1829 L S h Q ↔ WP 335 0 1830 L (vI 0 :: S) h Q := wp_pl rfl rfl rfl
theorem s335_1830 : WP 335 0 1830 L [vI x] h Q ↔ ((x = 0 ∨ x = 1) ∧ Q (.inl (some (vI x))) h) := wp_iret rfl rfl
theorem s335_1831 : WP 335 0 1831 [a0, a1, a2, a3, a4, vI x, a6, a7] S h Q ↔ WP 335 0 1833 [a0, a1, a2, a3, a4, vI x, a6, a7] (vI x :: S) h Q := wp_iload rfl rfl
theorem s335_1833 : WP 335 0 1833 L (vI x :: S) h Q ↔ zif (x = 0) (WP 335 0 1836 L S h Q) (WP 335 0 1848 L S h Q) := wp_bN zc_eq rfl rfl rfl
theorem s335_1836 : WP 335 0 1836 [a0, a1, a2, vA r, a4, a5, a6, a7] S h Q ↔ WP 335 0 1837 [a0, a1, a2, vA r, a4, a5, a6, a7] (vA r :: S) h Q := wp_aload rfl rfl
theorem s335_1837 : WP 335 0 1837 L S h Q ↔ WP 335 0 1838 L (vI 0 :: S) h Q := wp_pl rfl rfl rfl
theorem s335_1838 : WP 335 0 1838 L (vI x :: vA (some a) :: S) h Q ↔ (((hk h a).1 = 4 ∧ 0 ≤ x ∧ x < ((hk h a).2 : Int)) ∧ WP 335 0 1839 L (hm h a x.toNat :: S) h Q) := wp_if rfl rfl rfl
theorem s335_1839 : WP 335 0 1839 [a0, a1, a2, a3, a4, a5, vI x, a7] S h Q ↔ WP 335 0 1841 [a0, a1, a2, a3, a4, a5, vI x, a7] (vI x :: S) h Q := wp_iload rfl rfl
theorem s335_1841 : WP 335 0 1841 L (vI x :: S) h Q ↔ WP 335 0 1842 L (vL x :: S) h Q := wp_pl rfl rfl rfl
theorem s335_1842 : WP 335 0 1842 L (vL y :: vL x :: S) h Q ↔ WP 335 0 1843 L (vI (zlc x y) :: S) h Q := wp_pl rfl rfl rfl
theorem s335_1843 : WP 335 0 1843 L (vI x :: S) h Q ↔ zif (x = 0) (WP 335 0 1848 L S h Q) (WP 335 0 1846 L S h Q) := wp_bE zc_eq rfl rfl rfl
theorem s335_1846 : WP 335 0 1846 L S h Q ↔ WP 335 0 1847 L (vI 0 :: S) h Q := wp_pl rfl rfl rfl
theorem s335_1847 : WP 335 0 1847 L [vI x] h Q ↔ ((x = 0 ∨ x = 1) ∧ Q (.inl (some (vI x))) h) := wp_iret rfl rfl
theorem s335_1848 : WP 335 0 1848 L S h Q ↔ WP 335 0 2799 L S h Q := wp_pl rfl rfl rfl
theorem s335_1851 : WP 335 0 1851 [a0, vA r, a2, a3, a4, a5, a6, a7] S h Q ↔ WP 335 0 1852 [a0, vA r, a2, a3, a4, a5, a6, a7] (vA r :: S) h Q := wp_aload rfl rfl
theorem s335_1852 : WP 335 0 1852 [vA r, a1, a2, a3, a4, a5, a6, a7] S h Q ↔ WP 335 0 1853 [vA r, a1, a2, a3, a4, a5, a6, a7] (vA r :: S) h Q := wp_aload rfl rfl
theorem s335_1853 : WP 335 0 1853 [a0, a1, a2, a3, vI x, a5, a6, a7] S h Q ↔ WP 335 0 1855 [a0, a1, a2, a3, vI x, a5, a6, a7] (vI x :: S) h Q := wp_iload rfl rfl
theorem s335_1855 : WP 335 0 1855 L S h Q ↔ WP 335 0 1856 L (vI 1 :: S) h Q := wp_pl rfl rfl rfl
theorem s335_1856 : WP 335 0 1856 L (vI y :: vI x :: S) h Q ↔ WP 335 0 1857 L (vI (wr (x + y)) :: S) h Q := wp_pl rfl rfl rfl
theorem s335_1857 : WP 335 0 1857 L (vI x :: vA (some a) :: S) h Q ↔ (((hk h a).1 = 1 ∧ 0 ≤ x ∧ x < ((hk h a).2 : Int)) ∧ WP 335 0 1858 L (hm h a x.toNat :: S) h Q) := wp_if rfl rfl rfl
theorem s335_1858 : WP 335 0 1858 [a0, a1, a2, vA r, a4, a5, a6, a7] S h Q ↔ WP 335 0 1859 [a0, a1, a2, vA r, a4, a5, a6, a7] (vA r :: S) h Q := wp_aload rfl rfl
theorem s335_1859 : WP 335 0 1859 L (vA r2 :: vI x1 :: vA r0 :: S) h Q ↔ (zw S ≤ 8 ∧ WP 338 0 0 [vA r0, vI x1, vA r2, vJ] [] h (zret 335 0 1859 1862 L S Q)) := wp_S rfl rfl (zcan_of rfl rfl) rfl rfl rfl
theorem s335_1862 : WP 335 0 1862 [a0, a1, a2, a3, a4, a5, a6, a7] (vI x :: S) h Q ↔ WP 335 0 1864 [a0, a1, a2, a3, a4, vI x, a6, a7] S h Q := wp_istore rfl rfl rfl
theorem s335_1864 : WP 335 0 1864 [a0, a1, vA r, a3, a4, a5, a6, a7] S h Q ↔ WP 335 0 1865 [a0, a1, vA r, a3, a4, a5, a6, a7] (vA r :: S) h Q := wp_aload rfl rfl
theorem s335_1865 : WP 335 0 1865 [vA r, a1, a2, a3, a4, a5, a6, a7] S h Q ↔ WP 335 0 1866 [vA r, a1, a2, a3, a4, a5, a6, a7] (vA r :: S) h Q := wp_aload rfl rfl
theorem s335_1866 : WP 335 0 1866 [a0, a1, a2, a3, vI x, a5, a6, a7] S h Q ↔ WP 335 0 1868 [a0, a1, a2, a3, vI x, a5, a6, a7] (vI x :: S) h Q := wp_iload rfl rfl
theorem s335_1868 : WP 335 0 1868 L S h Q ↔ WP 335 0 1869 L (vI 1 :: S) h Q := wp_pl rfl rfl rfl
theorem s335_1869 : WP 335 0 1869 L (vI y :: vI x :: S) h Q ↔ WP 335 0 1870 L (vI (wr (x + y)) :: S) h Q := wp_pl rfl rfl rfl
theorem s335_1870 : WP 335 0 1870 L (vI x :: vA (some a) :: S) h Q ↔ (((hk h a).1 = 1 ∧ 0 ≤ x ∧ x < ((hk h a).2 : Int)) ∧ WP 335 0 1871 L (hm h a x.toNat :: S) h Q) := wp_if rfl rfl rfl
theorem s335_1871 : WP 335 0 1871 L (vI x0 :: vA (some a) :: S) h Q ↔ ((hk h a).1 = 110 ∧ (zw S ≤ 8 ∧ WP 148 0 0 [vA (some a), vI x0] [] h (zret 335 0 1871 1874 L S Q))) := wp_V1 (c := 110) rfl rfl (fun _ => rfl) rfl rfl (zcan_of rfl rfl) rfl rfl rfl
theorem s335_1874 : WP 335 0 1874 [a0, a1, a2, a3, a4, a5, a6, a7] (vI x :: S) h Q ↔ WP 335 0 1876 [a0, a1, a2, a3, a4, a5, vI x, a7] S h Q := wp_istore rfl rfl rfl
theorem s335_1876 : WP 335 0 1876 [a0, a1, vA r, a3, a4, a5, a6, a7] S h Q ↔ WP 335 0 1877 [a0, a1, vA r, a3, a4, a5, a6, a7] (vA r :: S) h Q := wp_aload rfl rfl
theorem s335_1877 : WP 335 0 1877 L (vA (some a) :: S) h Q ↔ ((hk h a).1 = 110 ∧ (zw S ≤ 8 ∧ WP 247 0 0 [vA (some a)] [] h (zret 335 0 1877 1880 L S Q))) := wp_V1 (c := 110) rfl rfl (fun _ => rfl) rfl rfl (zcan_of rfl rfl) rfl rfl rfl
theorem s335_1880 : WP 335 0 1880 [a0, a1, a2, a3, a4, vI x, a6, a7] S h Q ↔ WP 335 0 1882 [a0, a1, a2, a3, a4, vI x, a6, a7] (vI x :: S) h Q := wp_iload rfl rfl
theorem s335_1882 : WP 335 0 1882 L (vI y :: vI x :: S) h Q ↔ zif (x = y) (WP 335 0 1887 L S h Q) (WP 335 0 1885 L S h Q) := wp_bE zc_eq rfl rfl rfl
theorem s335_1885 : WP 335 0 1885 L S h Q ↔ WP 335 0 1886 L (vI 0 :: S) h Q := wp_pl rfl rfl rfl
theorem s335_1886 : WP 335 0 1886 L [vI x] h Q ↔ ((x = 0 ∨ x = 1) ∧ Q (.inl (some (vI x))) h) := wp_iret rfl rfl
theorem s335_1887 : WP 335 0 1887 [a0, a1, a2, a3, a4, vI x, a6, a7] S h Q ↔ WP 335 0 1889 [a0, a1, a2, a3, a4, vI x, a6, a7] (vI x :: S) h Q := wp_iload rfl rfl
theorem s335_1889 : WP 335 0 1889 L (vI x :: S) h Q ↔ zif (x = 0) (WP 335 0 1892 L S h Q) (WP 335 0 1911 L S h Q) := wp_bN zc_eq rfl rfl rfl
theorem s335_1892 : WP 335 0 1892 [a0, a1, a2, vA r, a4, a5, a6, a7] S h Q ↔ WP 335 0 1893 [a0, a1, a2, vA r, a4, a5, a6, a7] (vA r :: S) h Q := wp_aload rfl rfl
theorem s335_1893 : WP 335 0 1893 L S h Q ↔ WP 335 0 1894 L (vI 0 :: S) h Q := wp_pl rfl rfl rfl
theorem s335_1894 : WP 335 0 1894 L (vI x :: vA (some a) :: S) h Q ↔ (((hk h a).1 = 4 ∧ 0 ≤ x ∧ x < ((hk h a).2 : Int)) ∧ WP 335 0 1895 L (hm h a x.toNat :: S) h Q) := wp_if rfl rfl rfl
theorem s335_1895 : WP 335 0 1895 [a0, a1, a2, a3, a4, a5, vI x, a7] S h Q ↔ WP 335 0 1897 [a0, a1, a2, a3, a4, a5, vI x, a7] (vI x :: S) h Q := wp_iload rfl rfl
theorem s335_1897 : WP 335 0 1897 L (vI x :: S) h Q ↔ zif (x = 0) (WP 335 0 1904 L S h Q) (WP 335 0 1900 L S h Q) := wp_bE zc_eq rfl rfl rfl
theorem s335_1900 : WP 335 0 1900 L S h Q ↔ WP 335 0 1901 L (vL 1 :: S) h Q := wp_pl rfl rfl rfl
theorem s335_1901 : WP 335 0 1901 L S h Q ↔ WP 335 0 1905 L S h Q := wp_pl rfl rfl rfl
theorem s335_1904 : WP 335 0 1904 L S h Q ↔ WP 335 0 1905 L (vL 0 :: S) h Q := wp_pl rfl rfl rfl
theorem s335_1905 : WP 335 0 1905 L (vL y :: vL x :: S) h Q ↔ WP 335 0 1906 L (vI (zlc x y) :: S) h Q := wp_pl rfl rfl rfl
theorem s335_1906 : WP 335 0 1906 L (vI x :: S) h Q ↔ zif (x = 0) (WP 335 0 1911 L S h Q) (WP 335 0 1909 L S h Q) := wp_bE zc_eq rfl rfl rfl
theorem s335_1909 : WP 335 0 1909 L S h Q ↔ WP 335 0 1910 L (vI 0 :: S) h Q := wp_pl rfl rfl rfl
theorem s335_1910 : WP 335 0 1910 L [vI x] h Q ↔ ((x = 0 ∨ x = 1) ∧ Q (.inl (some (vI x))) h) := wp_iret rfl rfl
theorem s335_1911 : WP 335 0 1911 L S h Q ↔ WP 335 0 2799 L S h Q := wp_pl rfl rfl rfl
theorem s335_1914 : WP 335 0 1914 [a0, vA r, a2, a3, a4, a5, a6, a7] S h Q ↔ WP 335 0 1915 [a0, vA r, a2, a3, a4, a5, a6, a7] (vA r :: S) h Q := wp_aload rfl rfl
theorem s335_1915 : WP 335 0 1915 [vA r, a1, a2, a3, a4, a5, a6, a7] S h Q ↔ WP 335 0 1916 [vA r, a1, a2, a3, a4, a5, a6, a7] (vA r :: S) h Q := wp_aload rfl rfl
theorem s335_1916 : WP 335 0 1916 [a0, a1, a2, a3, vI x, a5, a6, a7] S h Q ↔ WP 335 0 1918 [a0, a1, a2, a3, vI x, a5, a6, a7] (vI x :: S) h Q := wp_iload rfl rfl
theorem s335_1918 : WP 335 0 1918 L S h Q ↔ WP 335 0 1919 L (vI 1 :: S) h Q := wp_pl rfl rfl rfl
theorem s335_1919 : WP 335 0 1919 L (vI y :: vI x :: S) h Q ↔ WP 335 0 1920 L (vI (wr (x + y)) :: S) h Q := wp_pl rfl rfl rfl
theorem s335_1920 : WP 335 0 1920 L (vI x :: vA (some a) :: S) h Q ↔ (((hk h a).1 = 1 ∧ 0 ≤ x ∧ x < ((hk h a).2 : Int)) ∧ WP 335 0 1921 L (hm h a x.toNat :: S) h Q) := wp_if rfl rfl rfl
theorem s335_1921 : WP 335 0 1921 [vA r, a1, a2, a3, a4, a5, a6, a7] S h Q ↔ WP 335 0 1922 [vA r, a1, a2, a3, a4, a5, a6, a7] (vA r :: S) h Q := wp_aload rfl rfl
theorem s335_1922 : WP 335 0 1922 [a0, a1, a2, a3, vI x, a5, a6, a7] S h Q ↔ WP 335 0 1924 [a0, a1, a2, a3, vI x, a5, a6, a7] (vI x :: S) h Q := wp_iload rfl rfl
theorem s335_1924 : WP 335 0 1924 L S h Q ↔ WP 335 0 1925 L (vI 2 :: S) h Q := wp_pl rfl rfl rfl
theorem s335_1925 : WP 335 0 1925 L (vI y :: vI x :: S) h Q ↔ WP 335 0 1926 L (vI (wr (x + y)) :: S) h Q := wp_pl rfl rfl rfl
theorem s335_1926 : WP 335 0 1926 L (vI x :: vA (some a) :: S) h Q ↔ (((hk h a).1 = 1 ∧ 0 ≤ x ∧ x < ((hk h a).2 : Int)) ∧ WP 335 0 1927 L (hm h a x.toNat :: S) h Q) := wp_if rfl rfl rfl
theorem s335_1927 : WP 335 0 1927 [a0, a1, a2, vA r, a4, a5, a6, a7] S h Q ↔ WP 335 0 1928 [a0, a1, a2, vA r, a4, a5, a6, a7] (vA r :: S) h Q := wp_aload rfl rfl
theorem s335_1928 : WP 335 0 1928 L (vA r3 :: vI x2 :: vI x1 :: vA r0 :: S) h Q ↔ (zw S ≤ 8 ∧ WP 352 0 0 [vA r0, vI x1, vI x2, vA r3, vJ] [] h (zret 335 0 1928 1931 L S Q)) := wp_S rfl rfl (zcan_of rfl rfl) rfl rfl rfl
theorem s335_1931 : WP 335 0 1931 [a0, a1, a2, a3, a4, a5, a6, a7] (vI x :: S) h Q ↔ WP 335 0 1933 [a0, a1, a2, a3, a4, vI x, a6, a7] S h Q := wp_istore rfl rfl rfl
theorem s335_1933 : WP 335 0 1933 [a0, a1, vA r, a3, a4, a5, a6, a7] S h Q ↔ WP 335 0 1934 [a0, a1, vA r, a3, a4, a5, a6, a7] (vA r :: S) h Q := wp_aload rfl rfl
theorem s335_1934 : WP 335 0 1934 [vA r, a1, a2, a3, a4, a5, a6, a7] S h Q ↔ WP 335 0 1935 [vA r, a1, a2, a3, a4, a5, a6, a7] (vA r :: S) h Q := wp_aload rfl rfl
theorem s335_1935 : WP 335 0 1935 [a0, a1, a2, a3, vI x, a5, a6, a7] S h Q ↔ WP 335 0 1937 [a0, a1, a2, a3, vI x, a5, a6, a7] (vI x :: S) h Q := wp_iload rfl rfl
theorem s335_1937 : WP 335 0 1937 L S h Q ↔ WP 335 0 1938 L (vI 1 :: S) h Q := wp_pl rfl rfl rfl
theorem s335_1938 : WP 335 0 1938 L (vI y :: vI x :: S) h Q ↔ WP 335 0 1939 L (vI (wr (x + y)) :: S) h Q := wp_pl rfl rfl rfl
theorem s335_1939 : WP 335 0 1939 L (vI x :: vA (some a) :: S) h Q ↔ (((hk h a).1 = 1 ∧ 0 ≤ x ∧ x < ((hk h a).2 : Int)) ∧ WP 335 0 1940 L (hm h a x.toNat :: S) h Q) := wp_if rfl rfl rfl
theorem s335_1940 : WP 335 0 1940 [vA r, a1, a2, a3, a4, a5, a6, a7] S h Q ↔ WP 335 0 1941 [vA r, a1, a2, a3, a4, a5, a6, a7] (vA r :: S) h Q := wp_aload rfl rfl
theorem s335_1941 : WP 335 0 1941 [a0, a1, a2, a3, vI x, a5, a6, a7] S h Q ↔ WP 335 0 1943 [a0, a1, a2, a3, vI x, a5, a6, a7] (vI x :: S) h Q := wp_iload rfl rfl
theorem s335_1943 : WP 335 0 1943 L S h Q ↔ WP 335 0 1944 L (vI 2 :: S) h Q := wp_pl rfl rfl rfl
theorem s335_1944 : WP 335 0 1944 L (vI y :: vI x :: S) h Q ↔ WP 335 0 1945 L (vI (wr (x + y)) :: S) h Q := wp_pl rfl rfl rfl
theorem s335_1945 : WP 335 0 1945 L (vI x :: vA (some a) :: S) h Q ↔ (((hk h a).1 = 1 ∧ 0 ≤ x ∧ x < ((hk h a).2 : Int)) ∧ WP 335 0 1946 L (hm h a x.toNat :: S) h Q) := wp_if rfl rfl rfl
theorem s335_1946 : WP 335 0 1946 L (vI x1 :: vI x0 :: vA (some a) :: S) h Q ↔ ((hk h a).1 = 110 ∧ (zw S ≤ 8 ∧ WP 212 0 0 [vA (some a), vI x0, vI x1, vJ, vJ] [] h (zret 335 0 1946 1949 L S Q))) := wp_V1 (c := 110) rfl rfl (fun _ => rfl) rfl rfl (zcan_of rfl rfl) rfl rfl rfl
theorem s335_1949 : WP 335 0 1949 [a0, a1, a2, a3, a4, a5, a6, a7] (vI x :: S) h Q ↔ WP 335 0 1951 [a0, a1, a2, a3, a4, a5, vI x, a7] S h Q := wp_istore rfl rfl rfl
theorem s335_1951 : WP 335 0 1951 [a0, a1, vA r, a3, a4, a5, a6, a7] S h Q ↔ WP 335 0 1952 [a0, a1, vA r, a3, a4, a5, a6, a7] (vA r :: S) h Q := wp_aload rfl rfl
theorem s335_1952 : WP 335 0 1952 L (vA (some a) :: S) h Q ↔ ((hk h a).1 = 110 ∧ (zw S ≤ 8 ∧ WP 247 0 0 [vA (some a)] [] h (zret 335 0 1952 1955 L S Q))) := wp_V1 (c := 110) rfl rfl (fun _ => rfl) rfl rfl (zcan_of rfl rfl) rfl rfl rfl
theorem s335_1955 : WP 335 0 1955 [a0, a1, a2, a3, a4, vI x, a6, a7] S h Q ↔ WP 335 0 1957 [a0, a1, a2, a3, a4, vI x, a6, a7] (vI x :: S) h Q := wp_iload rfl rfl
theorem s335_1957 : WP 335 0 1957 L (vI y :: vI x :: S) h Q ↔ zif (x = y) (WP 335 0 1962 L S h Q) (WP 335 0 1960 L S h Q) := wp_bE zc_eq rfl rfl rfl
theorem s335_1960 : WP 335 0 1960 L S h Q ↔ WP 335 0 1961 L (vI 0 :: S) h Q := wp_pl rfl rfl rfl
theorem s335_1961 : WP 335 0 1961 L [vI x] h Q ↔ ((x = 0 ∨ x = 1) ∧ Q (.inl (some (vI x))) h) := wp_iret rfl rfl
theorem s335_1962 : WP 335 0 1962 [a0, a1, a2, a3, a4, vI x, a6, a7] S h Q ↔ WP 335 0 1964 [a0, a1, a2, a3, a4, vI x, a6, a7] (vI x :: S) h Q := wp_iload rfl rfl
theorem s335_1964 : WP 335 0 1964 L (vI x :: S) h Q ↔ zif (x = 0) (WP 335 0 1967 L S h Q) (WP 335 0 1979 L S h Q) := wp_bN zc_eq rfl rfl rfl
theorem s335_1967 : WP 335 0 1967 [a0, a1, a2, vA r, a4, a5, a6, a7] S h Q ↔ WP 335 0 1968 [a0, a1, a2, vA r, a4, a5, a6, a7] (vA r :: S) h Q := wp_aload rfl rfl
theorem s335_1968 : WP 335 0 1968 L S h Q ↔ WP 335 0 1969 L (vI 0 :: S) h Q := wp_pl rfl rfl rfl
theorem s335_1969 : WP 335 0 1969 L (vI x :: vA (some a) :: S) h Q ↔ (((hk h a).1 = 4 ∧ 0 ≤ x ∧ x < ((hk h a).2 : Int)) ∧ WP 335 0 1970 L (hm h a x.toNat :: S) h Q) := wp_if rfl rfl rfl
theorem s335_1970 : WP 335 0 1970 [a0, a1, a2, a3, a4, a5, vI x, a7] S h Q ↔ WP 335 0 1972 [a0, a1, a2, a3, a4, a5, vI x, a7] (vI x :: S) h Q := wp_iload rfl rfl
theorem s335_1972 : WP 335 0 1972 L (vI x :: S) h Q ↔ WP 335 0 1973 L (vL x :: S) h Q := wp_pl rfl rfl rfl
theorem s335_1973 : WP 335 0 1973 L (vL y :: vL x :: S) h Q ↔ WP 335 0 1974 L (vI (zlc x y) :: S) h Q := wp_pl rfl rfl rfl
theorem s335_1974 : WP 335 0 1974 L (vI x :: S) h Q ↔ zif (x = 0) (WP 335 0 1979 L S h Q) (WP 335 0 1977 L S h Q) := wp_bE zc_eq rfl rfl rfl
theorem s335_1977 : WP 335 0 1977 L S h Q ↔ WP 335 0 1978 L (vI 0 :: S) h Q := wp_pl rfl rfl rfl
theorem s335_1978 : WP 335 0 1978 L [vI x] h Q ↔ ((x = 0 ∨ x = 1) ∧ Q (.inl (some (vI x))) h) := wp_iret rfl rfl
theorem s335_1979 : WP 335 0 1979 L S h Q ↔ WP 335 0 2799 L S h Q := wp_pl rfl rfl rfl
theorem s335_1982 : WP 335 0 1982 [a0, vA r, a2, a3, a4, a5, a6, a7] S h Q ↔ WP 335 0 1983 [a0, vA r, a2, a3, a4, a5, a6, a7] (vA r :: S) h Q := wp_aload rfl rfl
theorem s335_1983 : WP 335 0 1983 [vA r, a1, a2, a3, a4, a5, a6, a7] S h Q ↔ WP 335 0 1984 [vA r, a1, a2, a3, a4, a5, a6, a7] (vA r :: S) h Q := wp_aload rfl rfl
theorem s335_1984 : WP 335 0 1984 [a0, a1, a2, a3, vI x, a5, a6, a7] S h Q ↔ WP 335 0 1986 [a0, a1, a2, a3, vI x, a5, a6, a7] (vI x :: S) h Q := wp_iload rfl rfl
theorem s335_1986 : WP 335 0 1986 L S h Q ↔ WP 335 0 1987 L (vI 1 :: S) h Q := wp_pl rfl rfl rfl
theorem s335_1987 : WP 335 0 1987 L (vI y :: vI x :: S) h Q ↔ WP 335 0 1988 L (vI (wr (x + y)) :: S) h Q := wp_pl rfl rfl rfl
theorem s335_1988 : WP 335 0 1988 L (vI x :: vA (some a) :: S) h Q ↔ (((hk h a).1 = 1 ∧ 0 ≤ x ∧ x < ((hk h a).2 : Int)) ∧ WP 335 0 1989 L (hm h a x.toNat :: S) h Q) := wp_if rfl rfl rfl
theorem s335_1989 : WP 335 0 1989 [vA r, a1, a2, a3, a4, a5, a6, a7] S h Q ↔ WP 335 0 1990 [vA r, a1, a2, a3, a4, a5, a6, a7] (vA r :: S) h Q := wp_aload rfl rfl
theorem s335_1990 : WP 335 0 1990 [a0, a1, a2, a3, vI x, a5, a6, a7] S h Q ↔ WP 335 0 1992 [a0, a1, a2, a3, vI x, a5, a6, a7] (vI x :: S) h Q := wp_iload rfl rfl
theorem s335_1992 : WP 335 0 1992 L S h Q ↔ WP 335 0 1993 L (vI 2 :: S) h Q := wp_pl rfl rfl rfl
theorem s335_1993 : WP 335 0 1993 L (vI y :: vI x :: S) h Q ↔ WP 335 0 1994 L (vI (wr (x + y)) :: S) h Q := wp_pl rfl rfl rfl
theorem s335_1994 : WP 335 0 1994 L (vI x :: vA (some a) :: S) h Q ↔ (((hk h a).1 = 1 ∧ 0 ≤ x ∧ x < ((hk h a).2 : Int)) ∧ WP 335 0 1995 L (hm h a x.toNat :: S) h Q) := wp_if rfl rfl rfl
theorem s335_1995 : WP 335 0 1995 [a0, a1, a2, vA r, a4, a5, a6, a7] S h Q ↔ WP 335 0 1996 [a0, a1, a2, vA r, a4, a5, a6, a7] (vA r :: S) h Q := wp_aload rfl rfl
theorem s335_1996 : WP 335 0 1996 L (vA r3 :: vI x2 :: vI x1 :: vA r0 :: S) h Q ↔ (zw S ≤ 8 ∧ WP 358 0 0 [vA r0, vI x1, vI x2, vA r3, vJ] [] h (zret 335 0 1996 1999 L S Q)) := wp_S rfl rfl (zcan_of rfl rfl) rfl rfl rfl
theorem s335_1999 : WP 335 0 1999 [a0, a1, a2, a3, a4, a5, a6, a7] (vI x :: S) h Q ↔ WP 335 0 2001 [a0, a1, a2, a3, a4, vI x, a6, a7] S h Q := wp_istore rfl rfl rfl
theorem s335_2001 : WP 335 0 2001 [a0, a1, vA r, a3, a4, a5, a6, a7] S h Q ↔ WP 335 0 2002 [a0, a1, vA r, a3, a4, a5, a6, a7] (vA r :: S) h Q := wp_aload rfl rfl
theorem s335_2002 : WP 335 0 2002 [vA r, a1, a2, a3, a4, a5, a6, a7] S h Q ↔ WP 335 0 2003 [vA r, a1, a2, a3, a4, a5, a6, a7] (vA r :: S) h Q := wp_aload rfl rfl
theorem s335_2003 : WP 335 0 2003 [a0, a1, a2, a3, vI x, a5, a6, a7] S h Q ↔ WP 335 0 2005 [a0, a1, a2, a3, vI x, a5, a6, a7] (vI x :: S) h Q := wp_iload rfl rfl
theorem s335_2005 : WP 335 0 2005 L S h Q ↔ WP 335 0 2006 L (vI 1 :: S) h Q := wp_pl rfl rfl rfl
theorem s335_2006 : WP 335 0 2006 L (vI y :: vI x :: S) h Q ↔ WP 335 0 2007 L (vI (wr (x + y)) :: S) h Q := wp_pl rfl rfl rfl
theorem s335_2007 : WP 335 0 2007 L (vI x :: vA (some a) :: S) h Q ↔ (((hk h a).1 = 1 ∧ 0 ≤ x ∧ x < ((hk h a).2 : Int)) ∧ WP 335 0 2008 L (hm h a x.toNat :: S) h Q) := wp_if rfl rfl rfl
theorem s335_2008 : WP 335 0 2008 [vA r, a1, a2, a3, a4, a5, a6, a7] S h Q ↔ WP 335 0 2009 [vA r, a1, a2, a3, a4, a5, a6, a7] (vA r :: S) h Q := wp_aload rfl rfl
theorem s335_2009 : WP 335 0 2009 [a0, a1, a2, a3, vI x, a5, a6, a7] S h Q ↔ WP 335 0 2011 [a0, a1, a2, a3, vI x, a5, a6, a7] (vI x :: S) h Q := wp_iload rfl rfl
theorem s335_2011 : WP 335 0 2011 L S h Q ↔ WP 335 0 2012 L (vI 2 :: S) h Q := wp_pl rfl rfl rfl
theorem s335_2012 : WP 335 0 2012 L (vI y :: vI x :: S) h Q ↔ WP 335 0 2013 L (vI (wr (x + y)) :: S) h Q := wp_pl rfl rfl rfl
theorem s335_2013 : WP 335 0 2013 L (vI x :: vA (some a) :: S) h Q ↔ (((hk h a).1 = 1 ∧ 0 ≤ x ∧ x < ((hk h a).2 : Int)) ∧ WP 335 0 2014 L (hm h a x.toNat :: S) h Q) := wp_if rfl rfl rfl
theorem s335_2014 : WP 335 0 2014 L (vI x1 :: vI x0 :: vA (some a) :: S) h Q ↔ ((hk h a).1 = 110 ∧ (zw S ≤ 8 ∧ WP 229 0 0 [vA (some a), vI x0, vI x1] [] h (zret 335 0 2014 2017 L S Q))) := wp_V1 (c := 110) rfl rfl (fun _ => rfl) rfl rfl (zcan_of rfl rfl) rfl rfl rfl
theorem s335_2017 : WP 335 0 2017 [a0, a1, a2, a3, a4, a5, a6, a7] (vI x :: S) h Q ↔ WP 335 0 2019 [a0, a1, a2, a3, a4, a5, vI x, a7] S h Q := wp_istore rfl rfl rfl
theorem s335_2019 : WP 335 0 2019 [a0, a1, vA r, a3, a4, a5, a6, a7] S h Q ↔ WP 335 0 2020 [a0, a1, vA r, a3, a4, a5, a6, a7] (vA r :: S) h Q := wp_aload rfl rfl
theorem s335_2020 : WP 335 0 2020 L (vA (some a) :: S) h Q ↔ ((hk h a).1 = 110 ∧ (zw S ≤ 8 ∧ WP 247 0 0 [vA (some a)] [] h (zret 335 0 2020 2023 L S Q))) := wp_V1 (c := 110) rfl rfl (fun _ => rfl) rfl rfl (zcan_of rfl rfl) rfl rfl rfl
theorem s335_2023 : WP 335 0 2023 [a0, a1, a2, a3, a4, vI x, a6, a7] S h Q ↔ WP 335 0 2025 [a0, a1, a2, a3, a4, vI x, a6, a7] (vI x :: S) h Q := wp_iload rfl rfl
theorem s335_2025 : WP 335 0 2025 L (vI y :: vI x :: S) h Q ↔ zif (x = y) (WP 335 0 2030 L S h Q) (WP 335 0 2028 L S h Q) := wp_bE zc_eq rfl rfl rfl
theorem s335_2028 : WP 335 0 2028 L S h Q ↔ WP 335 0 2029 L (vI 0 :: S) h Q := wp_pl rfl rfl rfl
theorem s335_2029 : WP 335 0 2029 L [vI x] h Q ↔ ((x = 0 ∨ x = 1) ∧ Q (.inl (some (vI x))) h) := wp_iret rfl rfl
theorem s335_2030 : WP 335 0 2030 [a0, a1, a2, a3, a4, vI x, a6, a7] S h Q ↔ WP 335 0 2032 [a0, a1, a2, a3, a4, vI x, a6, a7] (vI x :: S) h Q := wp_iload rfl rfl
theorem s335_2032 : WP 335 0 2032 L (vI x :: S) h Q ↔ zif (x = 0) (WP 335 0 2035 L S h Q) (WP 335 0 2047 L S h Q) := wp_bN zc_eq rfl rfl rfl
theorem s335_2035 : WP 335 0 2035 [a0, a1, a2, vA r, a4, a5, a6, a7] S h Q ↔ WP 335 0 2036 [a0, a1, a2, vA r, a4, a5, a6, a7] (vA r :: S) h Q := wp_aload rfl rfl
theorem s335_2036 : WP 335 0 2036 L S h Q ↔ WP 335 0 2037 L (vI 0 :: S) h Q := wp_pl rfl rfl rfl
theorem s335_2037 : WP 335 0 2037 L (vI x :: vA (some a) :: S) h Q ↔ (((hk h a).1 = 4 ∧ 0 ≤ x ∧ x < ((hk h a).2 : Int)) ∧ WP 335 0 2038 L (hm h a x.toNat :: S) h Q) := wp_if rfl rfl rfl
theorem s335_2038 : WP 335 0 2038 [a0, a1, a2, a3, a4, a5, vI x, a7] S h Q ↔ WP 335 0 2040 [a0, a1, a2, a3, a4, a5, vI x, a7] (vI x :: S) h Q := wp_iload rfl rfl
theorem s335_2040 : WP 335 0 2040 L (vI x :: S) h Q ↔ WP 335 0 2041 L (vL x :: S) h Q := wp_pl rfl rfl rfl
theorem s335_2041 : WP 335 0 2041 L (vL y :: vL x :: S) h Q ↔ WP 335 0 2042 L (vI (zlc x y) :: S) h Q := wp_pl rfl rfl rfl
theorem s335_2042 : WP 335 0 2042 L (vI x :: S) h Q ↔ zif (x = 0) (WP 335 0 2047 L S h Q) (WP 335 0 2045 L S h Q) := wp_bE zc_eq rfl rfl rfl
theorem s335_2045 : WP 335 0 2045 L S h Q ↔ WP 335 0 2046 L (vI 0 :: S) h Q := wp_pl rfl rfl rfl
theorem s335_2046 : WP 335 0 2046 L [vI x] h Q ↔ ((x = 0 ∨ x = 1) ∧ Q (.inl (some (vI x))) h) := wp_iret rfl rfl
theorem s335_2047 : WP 335 0 2047 L S h Q ↔ WP 335 0 2799 L S h Q := wp_pl rfl rfl rfl
theorem s335_2050 : WP 335 0 2050 [a0, vA r, a2, a3, a4, a5, a6, a7] S h Q ↔ WP 335 0 2051 [a0, vA r, a2, a3, a4, a5, a6, a7] (vA r :: S) h Q := wp_aload rfl rfl
theorem s335_2051 : WP 335 0 2051 [vA r, a1, a2, a3, a4, a5, a6, a7] S h Q ↔ WP 335 0 2052 [vA r, a1, a2, a3, a4, a5, a6, a7] (vA r :: S) h Q := wp_aload rfl rfl
theorem s335_2052 : WP 335 0 2052 [a0, a1, a2, a3, vI x, a5, a6, a7] S h Q ↔ WP 335 0 2054 [a0, a1, a2, a3, vI x, a5, a6, a7] (vI x :: S) h Q := wp_iload rfl rfl
theorem s335_2054 : WP 335 0 2054 L S h Q ↔ WP 335 0 2055 L (vI 1 :: S) h Q := wp_pl rfl rfl rfl
theorem s335_2055 : WP 335 0 2055 L (vI y :: vI x :: S) h Q ↔ WP 335 0 2056 L (vI (wr (x + y)) :: S) h Q := wp_pl rfl rfl rfl
theorem s335_2056 : WP 335 0 2056 L (vI x :: vA (some a) :: S) h Q ↔ (((hk h a).1 = 1 ∧ 0 ≤ x ∧ x < ((hk h a).2 : Int)) ∧ WP 335 0 2057 L (hm h a x.toNat :: S) h Q) := wp_if rfl rfl rfl
theorem s335_2057 : WP 335 0 2057 [a0, a1, a2, vA r, a4, a5, a6, a7] S h Q ↔ WP 335 0 2058 [a0, a1, a2, vA r, a4, a5, a6, a7] (vA r :: S) h Q := wp_aload rfl rfl
theorem s335_2058 : WP 335 0 2058 L (vA r2 :: vI x1 :: vA r0 :: S) h Q ↔ (zw S ≤ 8 ∧ WP 366 0 0 [vA r0, vI x1, vA r2, vJ] [] h (zret 335 0 2058 2061 L S Q)) := wp_S rfl rfl (zcan_of rfl rfl) rfl rfl rfl
theorem s335_2061 : WP 335 0 2061 [a0, a1, a2, a3, a4, a5, a6, a7] (vI x :: S) h Q ↔ WP 335 0 2063 [a0, a1, a2, a3, a4, vI x, a6, a7] S h Q := wp_istore rfl rfl rfl
theorem s335_2063 : WP 335 0 2063 [a0, a1, vA r, a3, a4, a5, a6, a7] S h Q ↔ WP 335 0 2064 [a0, a1, vA r, a3, a4, a5, a6, a7] (vA r :: S) h Q := wp_aload rfl rfl
theorem s335_2064 : WP 335 0 2064 [vA r, a1, a2, a3, a4, a5, a6, a7] S h Q ↔ WP 335 0 2065 [vA r, a1, a2, a3, a4, a5, a6, a7] (vA r :: S) h Q := wp_aload rfl rfl
theorem s335_2065 : WP 335 0 2065 [a0, a1, a2, a3, vI x, a5, a6, a7] S h Q ↔ WP 335 0 2067 [a0, a1, a2, a3, vI x, a5, a6, a7] (vI x :: S) h Q := wp_iload rfl rfl
theorem s335_2067 : WP 335 0 2067 L S h Q ↔ WP 335 0 2068 L (vI 1 :: S) h Q := wp_pl rfl rfl rfl
theorem s335_2068 : WP 335 0 2068 L (vI y :: vI x :: S) h Q ↔ WP 335 0 2069 L (vI (wr (x + y)) :: S) h Q := wp_pl rfl rfl rfl
theorem s335_2069 : WP 335 0 2069 L (vI x :: vA (some a) :: S) h Q ↔ (((hk h a).1 = 1 ∧ 0 ≤ x ∧ x < ((hk h a).2 : Int)) ∧ WP 335 0 2070 L (hm h a x.toNat :: S) h Q) := wp_if rfl rfl rfl
theorem s335_2070 : WP 335 0 2070 L (vI x0 :: vA (some a) :: S) h Q ↔ ((hk h a).1 = 110 ∧ (zw S ≤ 8 ∧ WP 244 0 0 [vA (some a), vI x0] [] h (zret 335 0 2070 2073 L S Q))) := wp_V1 (c := 110) rfl rfl (fun _ => rfl) rfl rfl (zcan_of rfl rfl) rfl rfl rfl
theorem s335_2073 : WP 335 0 2073 [a0, a1, a2, a3, a4, a5, a6, a7] (vI x :: S) h Q ↔ WP 335 0 2075 [a0, a1, a2, a3, a4, a5, vI x, a7] S h Q := wp_istore rfl rfl rfl
theorem s335_2075 : WP 335 0 2075 [a0, a1, vA r, a3, a4, a5, a6, a7] S h Q ↔ WP 335 0 2076 [a0, a1, vA r, a3, a4, a5, a6, a7] (vA r :: S) h Q := wp_aload rfl rfl
theorem s335_2076 : WP 335 0 2076 L (vA (some a) :: S) h Q ↔ ((hk h a).1 = 110 ∧ (zw S ≤ 8 ∧ WP 247 0 0 [vA (some a)] [] h (zret 335 0 2076 2079 L S Q))) := wp_V1 (c := 110) rfl rfl (fun _ => rfl) rfl rfl (zcan_of rfl rfl) rfl rfl rfl
theorem s335_2079 : WP 335 0 2079 [a0, a1, a2, a3, a4, vI x, a6, a7] S h Q ↔ WP 335 0 2081 [a0, a1, a2, a3, a4, vI x, a6, a7] (vI x :: S) h Q := wp_iload rfl rfl
theorem s335_2081 : WP 335 0 2081 L (vI y :: vI x :: S) h Q ↔ zif (x = y) (WP 335 0 2086 L S h Q) (WP 335 0 2084 L S h Q) := wp_bE zc_eq rfl rfl rfl
theorem s335_2084 : WP 335 0 2084 L S h Q ↔ WP 335 0 2085 L (vI 0 :: S) h Q := wp_pl rfl rfl rfl
theorem s335_2085 : WP 335 0 2085 L [vI x] h Q ↔ ((x = 0 ∨ x = 1) ∧ Q (.inl (some (vI x))) h) := wp_iret rfl rfl
theorem s335_2086 : WP 335 0 2086 [a0, a1, a2, a3, a4, vI x, a6, a7] S h Q ↔ WP 335 0 2088 [a0, a1, a2, a3, a4, vI x, a6, a7] (vI x :: S) h Q := wp_iload rfl rfl
theorem s335_2088 : WP 335 0 2088 L (vI x :: S) h Q ↔ zif (x = 0) (WP 335 0 2091 L S h Q) (WP 335 0 2103 L S h Q) := wp_bN zc_eq rfl rfl rfl
theorem s335_2091 : WP 335 0 2091 [a0, a1, a2, vA r, a4, a5, a6, a7] S h Q ↔ WP 335 0 2092 [a0, a1, a2, vA r, a4, a5, a6, a7] (vA r :: S) h Q := wp_aload rfl rfl
theorem s335_2092 : WP 335 0 2092 L S h Q ↔ WP 335 0 2093 L (vI 0 :: S) h Q := wp_pl rfl rfl rfl
theorem s335_2093 : WP 335 0 2093 L (vI x :: vA (some a) :: S) h Q ↔ (((hk h a).1 = 4 ∧ 0 ≤ x ∧ x < ((hk h a).2 : Int)) ∧ WP 335 0 2094 L (hm h a x.toNat :: S) h Q) := wp_if rfl rfl rfl
theorem s335_2094 : WP 335 0 2094 [a0, a1, a2, a3, a4, a5, vI x, a7] S h Q ↔ WP 335 0 2096 [a0, a1, a2, a3, a4, a5, vI x, a7] (vI x :: S) h Q := wp_iload rfl rfl
theorem s335_2096 : WP 335 0 2096 L (vI x :: S) h Q ↔ WP 335 0 2097 L (vL x :: S) h Q := wp_pl rfl rfl rfl
theorem s335_2097 : WP 335 0 2097 L (vL y :: vL x :: S) h Q ↔ WP 335 0 2098 L (vI (zlc x y) :: S) h Q := wp_pl rfl rfl rfl
theorem s335_2098 : WP 335 0 2098 L (vI x :: S) h Q ↔ zif (x = 0) (WP 335 0 2103 L S h Q) (WP 335 0 2101 L S h Q) := wp_bE zc_eq rfl rfl rfl
theorem s335_2101 : WP 335 0 2101 L S h Q ↔ WP 335 0 2102 L (vI 0 :: S) h Q := wp_pl rfl rfl rfl
theorem s335_2102 : WP 335 0 2102 L [vI x] h Q ↔ ((x = 0 ∨ x = 1) ∧ Q (.inl (some (vI x))) h) := wp_iret rfl rfl
theorem s335_2103 : WP 335 0 2103 L S h Q ↔ WP 335 0 2799 L S h Q := wp_pl rfl rfl rfl
theorem s335_2106 : WP 335 0 2106 [a0, vA r, a2, a3, a4, a5, a6, a7] S h Q ↔ WP 335 0 2107 [a0, vA r, a2, a3, a4, a5, a6, a7] (vA r :: S) h Q := wp_aload rfl rfl
theorem s335_2107 : WP 335 0 2107 [a0, a1, a2, vA r, a4, a5, a6, a7] S h Q ↔ WP 335 0 2108 [a0, a1, a2, vA r, a4, a5, a6, a7] (vA r :: S) h Q := wp_aload rfl rfl
theorem s335_2108 : WP 335 0 2108 L (vA r1 :: vA r0 :: S) h Q ↔ (zw S ≤ 8 ∧ WP 362 0 0 [vA r0, vA r1, vJ] [] h (zret 335 0 2108 2111 L S Q)) := wp_S rfl rfl (zcan_of rfl rfl) rfl rfl rfl
theorem s335_2111 : WP 335 0 2111 [a0, a1, a2, a3, a4, a5, a6, a7] (vI x :: S) h Q ↔ WP 335 0 2113 [a0, a1, a2, a3, a4, vI x, a6, a7] S h Q := wp_istore rfl rfl rfl
theorem s335_2113 : WP 335 0 2113 [a0, a1, vA r, a3, a4, a5, a6, a7] S h Q ↔ WP 335 0 2114 [a0, a1, vA r, a3, a4, a5, a6, a7] (vA r :: S) h Q := wp_aload rfl rfl
theorem s335_2114 : WP 335 0 2114 L (vA (some a) :: S) h Q ↔ ((hk h a).1 = 110 ∧ (zw S ≤ 8 ∧ WP 237 0 0 [vA (some a)] [] h (zret 335 0 2114 2117 L S Q))) := wp_V1 (c := 110) rfl rfl (fun _ => rfl) rfl rfl (zcan_of rfl rfl) rfl rfl rfl
theorem s335_2117 : WP 335 0 2117 [a0, a1, a2, a3, a4, a5, a6, a7] (vI x :: S) h Q ↔ WP 335 0 2119 [a0, a1, a2, a3, a4, a5, vI x, a7] S h Q := wp_istore rfl rfl rfl
theorem s335_2119 : WP 335 0 2119 [a0, a1, vA r, a3, a4, a5, a6, a7] S h Q ↔ WP 335 0 2120 [a0, a1, vA r, a3, a4, a5, a6, a7] (vA r :: S) h Q := wp_aload rfl rfl
theorem s335_2120 : WP 335 0 2120 L (vA (some a) :: S) h Q ↔ ((hk h a).1 = 110 ∧ (zw S ≤ 8 ∧ WP 247 0 0 [vA (some a)] [] h (zret 335 0 2120 2123 L S Q))) := wp_V1 (c := 110) rfl rfl (fun _ => rfl) rfl rfl (zcan_of rfl rfl) rfl rfl rfl
theorem s335_2123 : WP 335 0 2123 [a0, a1, a2, a3, a4, vI x, a6, a7] S h Q ↔ WP 335 0 2125 [a0, a1, a2, a3, a4, vI x, a6, a7] (vI x :: S) h Q := wp_iload rfl rfl
theorem s335_2125 : WP 335 0 2125 L (vI y :: vI x :: S) h Q ↔ zif (x = y) (WP 335 0 2130 L S h Q) (WP 335 0 2128 L S h Q) := wp_bE zc_eq rfl rfl rfl
theorem s335_2128 : WP 335 0 2128 L S h Q ↔ WP 335 0 2129 L (vI 0 :: S) h Q := wp_pl rfl rfl rfl
theorem s335_2129 : WP 335 0 2129 L [vI x] h Q ↔ ((x = 0 ∨ x = 1) ∧ Q (.inl (some (vI x))) h) := wp_iret rfl rfl
theorem s335_2130 : WP 335 0 2130 [a0, a1, a2, a3, a4, vI x, a6, a7] S h Q ↔ WP 335 0 2132 [a0, a1, a2, a3, a4, vI x, a6, a7] (vI x :: S) h Q := wp_iload rfl rfl
theorem s335_2132 : WP 335 0 2132 L (vI x :: S) h Q ↔ zif (x = 0) (WP 335 0 2135 L S h Q) (WP 335 0 2147 L S h Q) := wp_bN zc_eq rfl rfl rfl
theorem s335_2135 : WP 335 0 2135 [a0, a1, a2, vA r, a4, a5, a6, a7] S h Q ↔ WP 335 0 2136 [a0, a1, a2, vA r, a4, a5, a6, a7] (vA r :: S) h Q := wp_aload rfl rfl
theorem s335_2136 : WP 335 0 2136 L S h Q ↔ WP 335 0 2137 L (vI 0 :: S) h Q := wp_pl rfl rfl rfl
theorem s335_2137 : WP 335 0 2137 L (vI x :: vA (some a) :: S) h Q ↔ (((hk h a).1 = 4 ∧ 0 ≤ x ∧ x < ((hk h a).2 : Int)) ∧ WP 335 0 2138 L (hm h a x.toNat :: S) h Q) := wp_if rfl rfl rfl
theorem s335_2138 : WP 335 0 2138 [a0, a1, a2, a3, a4, a5, vI x, a7] S h Q ↔ WP 335 0 2140 [a0, a1, a2, a3, a4, a5, vI x, a7] (vI x :: S) h Q := wp_iload rfl rfl
theorem s335_2140 : WP 335 0 2140 L (vI x :: S) h Q ↔ WP 335 0 2141 L (vL x :: S) h Q := wp_pl rfl rfl rfl
theorem s335_2141 : WP 335 0 2141 L (vL y :: vL x :: S) h Q ↔ WP 335 0 2142 L (vI (zlc x y) :: S) h Q := wp_pl rfl rfl rfl
theorem s335_2142 : WP 335 0 2142 L (vI x :: S) h Q ↔ zif (x = 0) (WP 335 0 2147 L S h Q) (WP 335 0 2145 L S h Q) := wp_bE zc_eq rfl rfl rfl
theorem s335_2145 : WP 335 0 2145 L S h Q ↔ WP 335 0 2146 L (vI 0 :: S) h Q := wp_pl rfl rfl rfl
theorem s335_2146 : WP 335 0 2146 L [vI x] h Q ↔ ((x = 0 ∨ x = 1) ∧ Q (.inl (some (vI x))) h) := wp_iret rfl rfl
theorem s335_2147 : WP 335 0 2147 L S h Q ↔ WP 335 0 2799 L S h Q := wp_pl rfl rfl rfl
theorem s335_2150 : WP 335 0 2150 [a0, vA r, a2, a3, a4, a5, a6, a7] S h Q ↔ WP 335 0 2151 [a0, vA r, a2, a3, a4, a5, a6, a7] (vA r :: S) h Q := wp_aload rfl rfl
theorem s335_2151 : WP 335 0 2151 [vA r, a1, a2, a3, a4, a5, a6, a7] S h Q ↔ WP 335 0 2152 [vA r, a1, a2, a3, a4, a5, a6, a7] (vA r :: S) h Q := wp_aload rfl rfl
theorem s335_2152 : WP 335 0 2152 [a0, a1, a2, a3, vI x, a5, a6, a7] S h Q ↔ WP 335 0 2154 [a0, a1, a2, a3, vI x, a5, a6, a7] (vI x :: S) h Q := wp_iload rfl rfl
theorem s335_2154 : WP 335 0 2154 L S h Q ↔ WP 335 0 2155 L (vI 1 :: S) h Q := wp_pl rfl rfl rfl
theorem s335_2155 : WP 335 0 2155 L (vI y :: vI x :: S) h Q ↔ WP 335 0 2156 L (vI (wr (x + y)) :: S) h Q := wp_pl rfl rfl rfl
theorem s335_2156 : WP 335 0 2156 L (vI x :: vA (some a) :: S) h Q ↔ (((hk h a).1 = 1 ∧ 0 ≤ x ∧ x < ((hk h a).2 : Int)) ∧ WP 335 0 2157 L (hm h a x.toNat :: S) h Q) := wp_if rfl rfl rfl
theorem s335_2157 : WP 335 0 2157 [vA r, a1, a2, a3, a4, a5, a6, a7] S h Q ↔ WP 335 0 2158 [vA r, a1, a2, a3, a4, a5, a6, a7] (vA r :: S) h Q := wp_aload rfl rfl
theorem s335_2158 : WP 335 0 2158 [a0, a1, a2, a3, vI x, a5, a6, a7] S h Q ↔ WP 335 0 2160 [a0, a1, a2, a3, vI x, a5, a6, a7] (vI x :: S) h Q := wp_iload rfl rfl
theorem s335_2160 : WP 335 0 2160 L S h Q ↔ WP 335 0 2161 L (vI 2 :: S) h Q := wp_pl rfl rfl rfl
theorem s335_2161 : WP 335 0 2161 L (vI y :: vI x :: S) h Q ↔ WP 335 0 2162 L (vI (wr (x + y)) :: S) h Q := wp_pl rfl rfl rfl
theorem s335_2162 : WP 335 0 2162 L (vI x :: vA (some a) :: S) h Q ↔ (((hk h a).1 = 1 ∧ 0 ≤ x ∧ x < ((hk h a).2 : Int)) ∧ WP 335 0 2163 L (hm h a x.toNat :: S) h Q) := wp_if rfl rfl rfl
theorem s335_2163 : WP 335 0 2163 [a0, a1, a2, vA r, a4, a5, a6, a7] S h Q ↔ WP 335 0 2164 [a0, a1, a2, vA r, a4, a5, a6, a7] (vA r :: S) h Q := wp_aload rfl rfl
theorem s335_2164 : WP 335 0 2164 L (vA r3 :: vI x2 :: vI x1 :: vA r0 :: S) h Q ↔ (zw S ≤ 8 ∧ WP 356 0 0 [vA r0, vI x1, vI x2, vA r3, vJ] [] h (zret 335 0 2164 2167 L S Q)) := wp_S rfl rfl (zcan_of rfl rfl) rfl rfl rfl
theorem s335_2167 : WP 335 0 2167 [a0, a1, a2, a3, a4, a5, a6, a7] (vI x :: S) h Q ↔ WP 335 0 2169 [a0, a1, a2, a3, a4, vI x, a6, a7] S h Q := wp_istore rfl rfl rfl
theorem s335_2169 : WP 335 0 2169 [a0, a1, vA r, a3, a4, a5, a6, a7] S h Q ↔ WP 335 0 2170 [a0, a1, vA r, a3, a4, a5, a6, a7] (vA r :: S) h Q := wp_aload rfl rfl
theorem s335_2170 : WP 335 0 2170 [vA r, a1, a2, a3, a4, a5, a6, a7] S h Q ↔ WP 335 0 2171 [vA r, a1, a2, a3, a4, a5, a6, a7] (vA r :: S) h Q := wp_aload rfl rfl
theorem s335_2171 : WP 335 0 2171 [a0, a1, a2, a3, vI x, a5, a6, a7] S h Q ↔ WP 335 0 2173 [a0, a1, a2, a3, vI x, a5, a6, a7] (vI x :: S) h Q := wp_iload rfl rfl
theorem s335_2173 : WP 335 0 2173 L S h Q ↔ WP 335 0 2174 L (vI 1 :: S) h Q := wp_pl rfl rfl rfl
theorem s335_2174 : WP 335 0 2174 L (vI y :: vI x :: S) h Q ↔ WP 335 0 2175 L (vI (wr (x + y)) :: S) h Q := wp_pl rfl rfl rfl
theorem s335_2175 : WP 335 0 2175 L (vI x :: vA (some a) :: S) h Q ↔ (((hk h a).1 = 1 ∧ 0 ≤ x ∧ x < ((hk h a).2 : Int)) ∧ WP 335 0 2176 L (hm h a x.toNat :: S) h Q) := wp_if rfl rfl rfl
theorem s335_2176 : WP 335 0 2176 [vA r, a1, a2, a3, a4, a5, a6, a7] S h Q ↔ WP 335 0 2177 [vA r, a1, a2, a3, a4, a5, a6, a7] (vA r :: S) h Q := wp_aload rfl rfl
theorem s335_2177 : WP 335 0 2177 [a0, a1, a2, a3, vI x, a5, a6, a7] S h Q ↔ WP 335 0 2179 [a0, a1, a2, a3, vI x, a5, a6, a7] (vI x :: S) h Q := wp_iload rfl rfl
theorem s335_2179 : WP 335 0 2179 L S h Q ↔ WP 335 0 2180 L (vI 2 :: S) h Q := wp_pl rfl rfl rfl
theorem s335_2180 : WP 335 0 2180 L (vI y :: vI x :: S) h Q ↔ WP 335 0 2181 L (vI (wr (x + y)) :: S) h Q := wp_pl rfl rfl rfl
theorem s335_2181 : WP 335 0 2181 L (vI x :: vA (some a) :: S) h Q ↔ (((hk h a).1 = 1 ∧ 0 ≤ x ∧ x < ((hk h a).2 : Int)) ∧ WP 335 0 2182 L (hm h a x.toNat :: S) h Q) := wp_if rfl rfl rfl
theorem s335_2182 : WP 335 0 2182 L (vI x1 :: vI x0 :: vA (some a) :: S) h Q ↔ ((hk h a).1 = 110 ∧ (zw S ≤ 8 ∧ WP 226 0 0 [vA (some a), vI x0, vI x1, vJ] [] h (zret 335 0 2182 2185 L S Q))) := wp_V1 (c := 110) rfl rfl (fun _ => rfl) rfl rfl (zcan_of rfl rfl) rfl rfl rfl
theorem s335_2185 : WP 335 0 2185 [a0, a1, a2, a3, a4, a5, a6, a7] (vI x :: S) h Q ↔ WP 335 0 2187 [a0, a1, a2, a3, a4, a5, vI x, a7] S h Q := wp_istore rfl rfl rfl
theorem s335_2187 : WP 335 0 2187 [a0, a1, vA r, a3, a4, a5, a6, a7] S h Q ↔ WP 335 0 2188 [a0, a1, vA r, a3, a4, a5, a6, a7] (vA r :: S) h Q := wp_aload rfl rfl
theorem s335_2188 : WP 335 0 2188 L (vA (some a) :: S) h Q ↔ ((hk h a).1 = 110 ∧ (zw S ≤ 8 ∧ WP 247 0 0 [vA (some a)] [] h (zret 335 0 2188 2191 L S Q))) := wp_V1 (c := 110) rfl rfl (fun _ => rfl) rfl rfl (zcan_of rfl rfl) rfl rfl rfl
theorem s335_2191 : WP 335 0 2191 [a0, a1, a2, a3, a4, vI x, a6, a7] S h Q ↔ WP 335 0 2193 [a0, a1, a2, a3, a4, vI x, a6, a7] (vI x :: S) h Q := wp_iload rfl rfl
theorem s335_2193 : WP 335 0 2193 L (vI y :: vI x :: S) h Q ↔ zif (x = y) (WP 335 0 2198 L S h Q) (WP 335 0 2196 L S h Q) := wp_bE zc_eq rfl rfl rfl
theorem s335_2196 : WP 335 0 2196 L S h Q ↔ WP 335 0 2197 L (vI 0 :: S) h Q := wp_pl rfl rfl rfl
theorem s335_2197 : WP 335 0 2197 L [vI x] h Q ↔ ((x = 0 ∨ x = 1) ∧ Q (.inl (some (vI x))) h) := wp_iret rfl rfl
theorem s335_2198 : WP 335 0 2198 [a0, a1, a2, a3, a4, vI x, a6, a7] S h Q ↔ WP 335 0 2200 [a0, a1, a2, a3, a4, vI x, a6, a7] (vI x :: S) h Q := wp_iload rfl rfl
theorem s335_2200 : WP 335 0 2200 L (vI x :: S) h Q ↔ zif (x = 0) (WP 335 0 2203 L S h Q) (WP 335 0 2215 L S h Q) := wp_bN zc_eq rfl rfl rfl
theorem s335_2203 : WP 335 0 2203 [a0, a1, a2, vA r, a4, a5, a6, a7] S h Q ↔ WP 335 0 2204 [a0, a1, a2, vA r, a4, a5, a6, a7] (vA r :: S) h Q := wp_aload rfl rfl
theorem s335_2204 : WP 335 0 2204 L S h Q ↔ WP 335 0 2205 L (vI 0 :: S) h Q := wp_pl rfl rfl rfl
theorem s335_2205 : WP 335 0 2205 L (vI x :: vA (some a) :: S) h Q ↔ (((hk h a).1 = 4 ∧ 0 ≤ x ∧ x < ((hk h a).2 : Int)) ∧ WP 335 0 2206 L (hm h a x.toNat :: S) h Q) := wp_if rfl rfl rfl
theorem s335_2206 : WP 335 0 2206 [a0, a1, a2, a3, a4, a5, vI x, a7] S h Q ↔ WP 335 0 2208 [a0, a1, a2, a3, a4, a5, vI x, a7] (vI x :: S) h Q := wp_iload rfl rfl
theorem s335_2208 : WP 335 0 2208 L (vI x :: S) h Q ↔ WP 335 0 2209 L (vL x :: S) h Q := wp_pl rfl rfl rfl
theorem s335_2209 : WP 335 0 2209 L (vL y :: vL x :: S) h Q ↔ WP 335 0 2210 L (vI (zlc x y) :: S) h Q := wp_pl rfl rfl rfl
theorem s335_2210 : WP 335 0 2210 L (vI x :: S) h Q ↔ zif (x = 0) (WP 335 0 2215 L S h Q) (WP 335 0 2213 L S h Q) := wp_bE zc_eq rfl rfl rfl
theorem s335_2213 : WP 335 0 2213 L S h Q ↔ WP 335 0 2214 L (vI 0 :: S) h Q := wp_pl rfl rfl rfl
theorem s335_2214 : WP 335 0 2214 L [vI x] h Q ↔ ((x = 0 ∨ x = 1) ∧ Q (.inl (some (vI x))) h) := wp_iret rfl rfl
theorem s335_2215 : WP 335 0 2215 L S h Q ↔ WP 335 0 2799 L S h Q := wp_pl rfl rfl rfl
theorem s335_2218 : WP 335 0 2218 [a0, vA r, a2, a3, a4, a5, a6, a7] S h Q ↔ WP 335 0 2219 [a0, vA r, a2, a3, a4, a5, a6, a7] (vA r :: S) h Q := wp_aload rfl rfl
theorem s335_2219 : WP 335 0 2219 L (vA (some a) :: S) h Q ↔ ((hk h a).1 = 100 ∧ (zw S ≤ 8 ∧ WP 1 0 0 [vA (some a), vJ, vJ, vJ] [] h (zret 335 0 2219 2222 L S Q))) := wp_V1 (c := 100) rfl rfl (fun _ => rfl) rfl rfl (zcan_of rfl rfl) rfl rfl rfl
theorem s335_2222 : WP 335 0 2222 [a0, a1, vA r, a3, a4, a5, a6, a7] S h Q ↔ WP 335 0 2223 [a0, a1, vA r, a3, a4, a5, a6, a7] (vA r :: S) h Q := wp_aload rfl rfl
theorem s335_2223 : WP 335 0 2223 L (vA (some a) :: S) h Q ↔ ((hk h a).1 = 110 ∧ (zw S ≤ 8 ∧ WP 135 0 0 [vA (some a), vJ, vJ] [] h (zret 335 0 2223 2226 L S Q))) := wp_V1 (c := 110) rfl rfl (fun _ => rfl) rfl rfl (zcan_of rfl rfl) rfl rfl rfl
theorem s335_2226 : WP 335 0 2226 L (vI y :: vI x :: S) h Q ↔ zif (x = y) (WP 335 0 2799 L S h Q) (WP 335 0 2229 L S h Q) := wp_bE zc_eq rfl rfl rfl
theorem s335_2229 : WP 335 0 2229 L S h Q ↔ WP 335 0 2230 L (vI 0 :: S) h Q := wp_pl rfl rfl rfl
theorem s335_2230 : WP 335 0 2230 L [vI x] h Q ↔ ((x = 0 ∨ x = 1) ∧ Q (.inl (some (vI x))) h) := wp_iret rfl rfl
theorem s335_2231 : WP 335 0 2231 [a0, vA r, a2, a3, a4, a5, a6, a7] S h Q ↔ WP 335 0 2232 [a0, vA r, a2, a3, a4, a5, a6, a7] (vA r :: S) h Q := wp_aload rfl rfl
theorem s335_2232 : WP 335 0 2232 [vA r, a1, a2, a3, a4, a5, a6, a7] S h Q ↔ WP 335 0 2233 [vA r, a1, a2, a3, a4, a5, a6, a7] (vA r :: S) h Q := wp_aload rfl rfl
theorem s335_2233 : WP 335 0 2233 [a0, a1, a2, a3, vI x, a5, a6, a7] S h Q ↔ WP 335 0 2235 [a0, a1, a2, a3, vI x, a5, a6, a7] (vI x :: S) h Q := wp_iload rfl rfl
theorem s335_2235 : WP 335 0 2235 L S h Q ↔ WP 335 0 2236 L (vI 1 :: S) h Q := wp_pl rfl rfl rfl
theorem s335_2236 : WP 335 0 2236 L (vI y :: vI x :: S) h Q ↔ WP 335 0 2237 L (vI (wr (x + y)) :: S) h Q := wp_pl rfl rfl rfl
theorem s335_2237 : WP 335 0 2237 L (vI x :: vA (some a) :: S) h Q ↔ (((hk h a).1 = 1 ∧ 0 ≤ x ∧ x < ((hk h a).2 : Int)) ∧ WP 335 0 2238 L (hm h a x.toNat :: S) h Q) := wp_if rfl rfl rfl
theorem s335_2238 : WP 335 0 2238 [vA r, a1, a2, a3, a4, a5, a6, a7] S h Q ↔ WP 335 0 2239 [vA r, a1, a2, a3, a4, a5, a6, a7] (vA r :: S) h Q := wp_aload rfl rfl
theorem s335_2239 : WP 335 0 2239 [a0, a1, a2, a3, vI x, a5, a6, a7] S h Q ↔ WP 335 0 2241 [a0, a1, a2, a3, vI x, a5, a6, a7] (vI x :: S) h Q := wp_iload rfl rfl
theorem s335_2241 : WP 335 0 2241 L S h Q ↔ WP 335 0 2242 L (vI 2 :: S) h Q := wp_pl rfl rfl rfl
theorem s335_2242 : WP 335 0 2242 L (vI y :: vI x :: S) h Q ↔ WP 335 0 2243 L (vI (wr (x + y)) :: S) h Q := wp_pl rfl rfl rfl
theorem s335_2243 : WP 335 0 2243 L (vI x :: vA (some a) :: S) h Q ↔ (((hk h a).1 = 1 ∧ 0 ≤ x ∧ x < ((hk h a).2 : Int)) ∧ WP 335 0 2244 L (hm h a x.toNat :: S) h Q) := wp_if rfl rfl rfl
theorem s335_2244 : WP 335 0 2244 [vA r, a1, a2, a3, a4, a5, a6, a7] S h Q ↔ WP 335 0 2245 [vA r, a1, a2, a3, a4, a5, a6, a7] (vA r :: S) h Q := wp_aload rfl rfl
theorem s335_2245 : WP 335 0 2245 [a0, a1, a2, a3, vI x, a5, a6, a7] S h Q ↔ WP 335 0 2247 [a0, a1, a2, a3, vI x, a5, a6, a7] (vI x :: S) h Q := wp_iload rfl rfl
theorem s335_2247 : WP 335 0 2247 L S h Q ↔ WP 335 0 2248 L (vI 3 :: S) h Q := wp_pl rfl rfl rfl
theorem s335_2248 : WP 335 0 2248 L (vI y :: vI x :: S) h Q ↔ WP 335 0 2249 L (vI (wr (x + y)) :: S) h Q := wp_pl rfl rfl rfl
theorem s335_2249 : WP 335 0 2249 L (vI x :: vA (some a) :: S) h Q ↔ (((hk h a).1 = 1 ∧ 0 ≤ x ∧ x < ((hk h a).2 : Int)) ∧ WP 335 0 2250 L (hm h a x.toNat :: S) h Q) := wp_if rfl rfl rfl
theorem s335_2250 : WP 335 0 2250 [a0, a1, a2, vA r, a4, a5, a6, a7] S h Q ↔ WP 335 0 2251 [a0, a1, a2, vA r, a4, a5, a6, a7] (vA r :: S) h Q := wp_aload rfl rfl
theorem s335_2251 : WP 335 0 2251 L (vA r4 :: vI x3 :: vI x2 :: vI x1 :: vA r0 :: S) h Q ↔ (zw S ≤ 8 ∧ WP 350 0 0 [vA r0, vI x1, vI x2, vI x3, vA r4, vJ] [] h (zret 335 0 2251 2254 L S Q)) := wp_S rfl rfl (zcan_of rfl rfl) rfl rfl rfl
theorem s335_2254 : WP 335 0 2254 [a0, a1, a2, a3, a4, a5, a6, a7] (vI x :: S) h Q ↔ WP 335 0 2256 [a0, a1, a2, a3, a4, vI x, a6, a7] S h Q := wp_istore rfl rfl rfl
theorem s335_2256 : WP 335 0 2256 [a0, a1, vA r, a3, a4, a5, a6, a7] S h Q ↔ WP 335 0 2257 [a0, a1, vA r, a3, a4, a5, a6, a7] (vA r :: S) h Q := wp_aload rfl rfl
theorem s335_2257 : WP 335 0 2257 [vA r, a1, a2, a3, a4, a5, a6, a7] S h Q ↔ WP 335 0 2258 [vA r, a1, a2, a3, a4, a5, a6, a7] (vA r :: S) h Q := wp_aload rfl rfl
theorem s335_2258 : WP 335 0 2258 [a0, a1, a2, a3, vI x, a5, a6, a7] S h Q ↔ WP 335 0 2260 [a0, a1, a2, a3, vI x, a5, a6, a7] (vI x :: S) h Q := wp_iload rfl rfl
theorem s335_2260 : WP 335 0 2260 L S h Q ↔ WP 335 0 2261 L (vI 1 :: S) h Q := wp_pl rfl rfl rfl
theorem s335_2261 : WP 335 0 2261 L (vI y :: vI x :: S) h Q ↔ WP 335 0 2262 L (vI (wr (x + y)) :: S) h Q := wp_pl rfl rfl rfl
theorem s335_2262 : WP 335 0 2262 L (vI x :: vA (some a) :: S) h Q ↔ (((hk h a).1 = 1 ∧ 0 ≤ x ∧ x < ((hk h a).2 : Int)) ∧ WP 335 0 2263 L (hm h a x.toNat :: S) h Q) := wp_if rfl rfl rfl
theorem s335_2263 : WP 335 0 2263 [vA r, a1, a2, a3, a4, a5, a6, a7] S h Q ↔ WP 335 0 2264 [vA r, a1, a2, a3, a4, a5, a6, a7] (vA r :: S) h Q := wp_aload rfl rfl
theorem s335_2264 : WP 335 0 2264 [a0, a1, a2, a3, vI x, a5, a6, a7] S h Q ↔ WP 335 0 2266 [a0, a1, a2, a3, vI x, a5, a6, a7] (vI x :: S) h Q := wp_iload rfl rfl
theorem s335_2266 : WP 335 0 2266 L S h Q ↔ WP 335 0 2267 L (vI 2 :: S) h Q := wp_pl rfl rfl rfl
theorem s335_2267 : WP 335 0 2267 L (vI y :: vI x :: S) h Q ↔ WP 335 0 2268 L (vI (wr (x + y)) :: S) h Q := wp_pl rfl rfl rfl
theorem s335_2268 : WP 335 0 2268 L (vI x :: vA (some a) :: S) h Q ↔ (((hk h a).1 = 1 ∧ 0 ≤ x ∧ x < ((hk h a).2 : Int)) ∧ WP 335 0 2269 L (hm h a x.toNat :: S) h Q) := wp_if rfl rfl rfl
theorem s335_2269 : WP 335 0 2269 [vA r, a1, a2, a3, a4, a5, a6, a7] S h Q ↔ WP 335 0 2270 [vA r, a1, a2, a3, a4, a5, a6, a7] (vA r :: S) h Q := wp_aload rfl rfl
theorem s335_2270 : WP 335 0 2270 [a0, a1, a2, a3, vI x, a5, a6, a7] S h Q ↔ WP 335 0 2272 [a0, a1, a2, a3, vI x, a5, a6, a7] (vI x :: S) h Q := wp_iload rfl rfl
theorem s335_2272 : WP 335 0 2272 L S h Q ↔ WP 335 0 2273 L (vI 3 :: S) h Q := wp_pl rfl rfl rfl
theorem s335_2273 : WP 335 0 2273 L (vI y :: vI x :: S) h Q ↔ WP 335 0 2274 L (vI (wr (x + y)) :: S) h Q := wp_pl rfl rfl rfl
theorem s335_2274 : WP 335 0 2274 L (vI x :: vA (some a) :: S) h Q ↔ (((hk h a).1 = 1 ∧ 0 ≤ x ∧ x < ((hk h a).2 : Int)) ∧ WP 335 0 2275 L (hm h a x.toNat :: S) h Q) := wp_if rfl rfl rfl
theorem s335_2275 : WP 335 0 2275 L (vI x2 :: vI x1 :: vI x0 :: vA (some a) :: S) h Q ↔ ((hk h a).1 = 110 ∧ (zw S ≤ 8 ∧ WP 205 0 0 [vA (some a), vI x0, vI x1, vI x2, vJ] [] h (zret 335 0 2275 2278 L S Q))) := wp_V1 (c := 110) rfl rfl (fun _ => rfl) rfl rfl (zcan_of rfl rfl) rfl rfl rfl
theorem s335_2278 : WP 335 0 2278 [a0, a1, a2, a3, a4, a5, a6, a7] (vI x :: S) h Q ↔ WP 335 0 2280 [a0, a1, a2, a3, a4, a5, vI x, a7] S h Q := wp_istore rfl rfl rfl
theorem s335_2280 : WP 335 0 2280 [a0, a1, vA r, a3, a4, a5, a6, a7] S h Q ↔ WP 335 0 2281 [a0, a1, vA r, a3, a4, a5, a6, a7] (vA r :: S) h Q := wp_aload rfl rfl
theorem s335_2281 : WP 335 0 2281 L (vA (some a) :: S) h Q ↔ ((hk h a).1 = 110 ∧ (zw S ≤ 8 ∧ WP 247 0 0 [vA (some a)] [] h (zret 335 0 2281 2284 L S Q))) := wp_V1 (c := 110) rfl rfl (fun _ => rfl) rfl rfl (zcan_of rfl rfl) rfl rfl rfl
theorem s335_2284 : WP 335 0 2284 [a0, a1, a2, a3, a4, vI x, a6, a7] S h Q ↔ WP 335 0 2286 [a0, a1, a2, a3, a4, vI x, a6, a7] (vI x :: S) h Q := wp_iload rfl rfl
theorem s335_2286 : WP 335 0 2286 L (vI y :: vI x :: S) h Q ↔ zif (x = y) (WP 335 0 2291 L S h Q) (WP 335 0 2289 L S h Q) := wp_bE zc_eq rfl rfl rfl
theorem s335_2289 : WP 335 0 2289 L S h Q ↔ WP 335 0 2290 L (vI 0 :: S) h Q := wp_pl rfl rfl rfl
theorem s335_2290 : WP 335 0 2290 L [vI x] h Q ↔ ((x = 0 ∨ x = 1) ∧ Q (.inl (some (vI x))) h) := wp_iret rfl rfl
theorem s335_2291 : WP 335 0 2291 [a0, a1, a2, a3, a4, vI x, a6, a7] S h Q ↔ WP 335 0 2293 [a0, a1, a2, a3, a4, vI x, a6, a7] (vI x :: S) h Q := wp_iload rfl rfl
theorem s335_2293 : WP 335 0 2293 L (vI x :: S) h Q ↔ zif (x = 0) (WP 335 0 2296 L S h Q) (WP 335 0 2308 L S h Q) := wp_bN zc_eq rfl rfl rfl
theorem s335_2296 : WP 335 0 2296 [a0, a1, a2, vA r, a4, a5, a6, a7] S h Q ↔ WP 335 0 2297 [a0, a1, a2, vA r, a4, a5, a6, a7] (vA r :: S) h Q := wp_aload rfl rfl
theorem s335_2297 : WP 335 0 2297 L S h Q ↔ WP 335 0 2298 L (vI 0 :: S) h Q := wp_pl rfl rfl rfl
theorem s335_2298 : WP 335 0 2298 L (vI x :: vA (some a) :: S) h Q ↔ (((hk h a).1 = 4 ∧ 0 ≤ x ∧ x < ((hk h a).2 : Int)) ∧ WP 335 0 2299 L (hm h a x.toNat :: S) h Q) := wp_if rfl rfl rfl
theorem s335_2299 : WP 335 0 2299 [a0, a1, a2, a3, a4, a5, vI x, a7] S h Q ↔ WP 335 0 2301 [a0, a1, a2, a3, a4, a5, vI x, a7] (vI x :: S) h Q := wp_iload rfl rfl
theorem s335_2301 : WP 335 0 2301 L (vI x :: S) h Q ↔ WP 335 0 2302 L (vL x :: S) h Q := wp_pl rfl rfl rfl
theorem s335_2302 : WP 335 0 2302 L (vL y :: vL x :: S) h Q ↔ WP 335 0 2303 L (vI (zlc x y) :: S) h Q := wp_pl rfl rfl rfl
theorem s335_2303 : WP 335 0 2303 L (vI x :: S) h Q ↔ zif (x = 0) (WP 335 0 2308 L S h Q) (WP 335 0 2306 L S h Q) := wp_bE zc_eq rfl rfl rfl
theorem s335_2306 : WP 335 0 2306 L S h Q ↔ WP 335 0 2307 L (vI 0 :: S) h Q := wp_pl rfl rfl rfl
theorem s335_2307 : WP 335 0 2307 L [vI x] h Q ↔ ((x = 0 ∨ x = 1) ∧ Q (.inl (some (vI x))) h) := wp_iret rfl rfl
theorem s335_2308 : WP 335 0 2308 L S h Q ↔ WP 335 0 2799 L S h Q := wp_pl rfl rfl rfl
theorem s335_2311 : WP 335 0 2311 [a0, vA r, a2, a3, a4, a5, a6, a7] S h Q ↔ WP 335 0 2312 [a0, vA r, a2, a3, a4, a5, a6, a7] (vA r :: S) h Q := wp_aload rfl rfl
theorem s335_2312 : WP 335 0 2312 [vA r, a1, a2, a3, a4, a5, a6, a7] S h Q ↔ WP 335 0 2313 [vA r, a1, a2, a3, a4, a5, a6, a7] (vA r :: S) h Q := wp_aload rfl rfl
theorem s335_2313 : WP 335 0 2313 [a0, a1, a2, a3, vI x, a5, a6, a7] S h Q ↔ WP 335 0 2315 [a0, a1, a2, a3, vI x, a5, a6, a7] (vI x :: S) h Q := wp_iload rfl rfl
theorem s335_2315 : WP 335 0 2315 L S h Q ↔ WP 335 0 2316 L (vI 1 :: S) h Q := wp_pl rfl rfl rfl
theorem s335_2316 : WP 335 0 2316 L (vI y :: vI x :: S) h Q ↔ WP 335 0 2317 L (vI (wr (x + y)) :: S) h Q := wp_pl rfl rfl rfl
theorem s335_2317 : WP 335 0 2317 L (vI x :: vA (some a) :: S) h Q ↔ (((hk h a).1 = 1 ∧ 0 ≤ x ∧ x < ((hk h a).2 : Int)) ∧ WP 335 0 2318 L (hm h a x.toNat :: S) h Q) := wp_if rfl rfl rfl
theorem s335_2318 : WP 335 0 2318 [vA r, a1, a2, a3, a4, a5, a6, a7] S h Q ↔ WP 335 0 2319 [vA r, a1, a2, a3, a4, a5, a6, a7] (vA r :: S) h Q := wp_aload rfl rfl
theorem s335_2319 : WP 335 0 2319 [a0, a1, a2, a3, vI x, a5, a6, a7] S h Q ↔ WP 335 0 2321 [a0, a1, a2, a3, vI x, a5, a6, a7] (vI x :: S) h Q := wp_iload rfl rfl
theorem s335_2321 : WP 335 0 2321 L S h Q ↔ WP 335 0 2322 L (vI 2 :: S) h Q := wp_pl rfl rfl rfl
theorem s335_2322 : WP 335 0 2322 L (vI y :: vI x :: S) h Q ↔ WP 335 0 2323 L (vI (wr (x + y)) :: S) h Q := wp_pl rfl rfl rfl
theorem s335_2323 : WP 335 0 2323 L (vI x :: vA (some a) :: S) h Q ↔ (((hk h a).1 = 1 ∧ 0 ≤ x ∧ x < ((hk h a).2 : Int)) ∧ WP 335 0 2324 L (hm h a x.toNat :: S) h Q) := wp_if rfl rfl rfl
theorem s335_2324 : WP 335 0 2324 L (vI x :: S) h Q ↔ zif (x = 0) (WP 335 0 2331 L S h Q) (WP 335 0 2327 L S h Q) := wp_bE zc_eq rfl rfl rfl
theorem s335_2327 : WP 335 0 2327 L S h Q ↔ WP 335 0 2328 L (vI 1 :: S) h Q := wp_pl rfl rfl rfl
theorem s335_2328 : WP 335 0 2328 L S h Q ↔ WP 335 0 2332 L S h Q := wp_pl rfl rfl rfl
theorem s335_2331 : WP 335 0 2331 L S h Q ↔ WP 335 0 2332 L (vI 0 :: S) h Q := wp_pl rfl rfl rfl
theorem s335_2332 : WP 335 0 2332 [a0, a1, a2, vA r, a4, a5, a6, a7] S h Q ↔ WP 335 0 2333 [a0, a1, a2, vA r, a4, a5, a6, a7] (vA r :: S) h Q := wp_aload rfl rfl
theorem s335_2333 : WP 335 0 2333 L (vA r3 :: vI x2 :: vI x1 :: vA r0 :: S) h Q ↔ (zw S ≤ 8 ∧ WP 336 0 0 [vA r0, vI x1, vI x2, vA r3, vJ] [] h (zret 335 0 2333 2336 L S Q)) := wp_S rfl rfl (zcan_of rfl rfl) rfl rfl rfl
theorem s335_2336 : WP 335 0 2336 [a0, a1, a2, a3, a4, a5, a6, a7] (vI x :: S) h Q ↔ WP 335 0 2338 [a0, a1, a2, a3, a4, vI x, a6, a7] S h Q := wp_istore rfl rfl rfl
theorem s335_2338 : WP 335 0 2338 [a0, a1, vA r, a3, a4, a5, a6, a7] S h Q ↔ WP 335 0 2339 [a0, a1, vA r, a3, a4, a5, a6, a7] (vA r :: S) h Q := wp_aload rfl rfl
theorem s335_2339 : WP 335 0 2339 [vA r, a1, a2, a3, a4, a5, a6, a7] S h Q ↔ WP 335 0 2340 [vA r, a1, a2, a3, a4, a5, a6, a7] (vA r :: S) h Q := wp_aload rfl rfl
theorem s335_2340 : WP 335 0 2340 [a0, a1, a2, a3, vI x, a5, a6, a7] S h Q ↔ WP 335 0 2342 [a0, a1, a2, a3, vI x, a5, a6, a7] (vI x :: S) h Q := wp_iload rfl rfl
theorem s335_2342 : WP 335 0 2342 L S h Q ↔ WP 335 0 2343 L (vI 1 :: S) h Q := wp_pl rfl rfl rfl
theorem s335_2343 : WP 335 0 2343 L (vI y :: vI x :: S) h Q ↔ WP 335 0 2344 L (vI (wr (x + y)) :: S) h Q := wp_pl rfl rfl rfl
theorem s335_2344 : WP 335 0 2344 L (vI x :: vA (some a) :: S) h Q ↔ (((hk h a).1 = 1 ∧ 0 ≤ x ∧ x < ((hk h a).2 : Int)) ∧ WP 335 0 2345 L (hm h a x.toNat :: S) h Q) := wp_if rfl rfl rfl
theorem s335_2345 : WP 335 0 2345 [vA r, a1, a2, a3, a4, a5, a6, a7] S h Q ↔ WP 335 0 2346 [vA r, a1, a2, a3, a4, a5, a6, a7] (vA r :: S) h Q := wp_aload rfl rfl
theorem s335_2346 : WP 335 0 2346 [a0, a1, a2, a3, vI x, a5, a6, a7] S h Q ↔ WP 335 0 2348 [a0, a1, a2, a3, vI x, a5, a6, a7] (vI x :: S) h Q := wp_iload rfl rfl
theorem s335_2348 : WP 335 0 2348 L S h Q ↔ WP 335 0 2349 L (vI 2 :: S) h Q := wp_pl rfl rfl rfl
theorem s335_2349 : WP 335 0 2349 L (vI y :: vI x :: S) h Q ↔ WP 335 0 2350 L (vI (wr (x + y)) :: S) h Q := wp_pl rfl rfl rfl
theorem s335_2350 : WP 335 0 2350 L (vI x :: vA (some a) :: S) h Q ↔ (((hk h a).1 = 1 ∧ 0 ≤ x ∧ x < ((hk h a).2 : Int)) ∧ WP 335 0 2351 L (hm h a x.toNat :: S) h Q) := wp_if rfl rfl rfl
theorem s335_2351 : WP 335 0 2351 L (vI x :: S) h Q ↔ zif (x = 0) (WP 335 0 2358 L S h Q) (WP 335 0 2354 L S h Q) := wp_bE zc_eq rfl rfl rfl
theorem s335_2354 : WP 335 0 2354 L S h Q ↔ WP 335 0 2355 L (vI 1 :: S) h Q := wp_pl rfl rfl rfl
theorem s335_2355 : WP 335 0 2355 L S h Q ↔ WP 335 0 2359 L S h Q := wp_pl rfl rfl rfl
theorem s335_2358 : WP 335 0 2358 L S h Q ↔ WP 335 0 2359 L (vI 0 :: S) h Q := wp_pl rfl rfl rfl
theorem s335_2359 : WP 335 0 2359 L (vI x1 :: vI x0 :: vA (some a) :: S) h Q ↔ ((hk h a).1 = 110 ∧ (zw S ≤ 8 ∧ WP 140 0 0 [vA (some a), vI x0, vI x1, vJ] [] h (zret 335 0 2359 2362 L S Q))) := wp_V1 (c := 110) rfl rfl (fun _ => rfl) rfl rfl (zcan_of rfl rfl) rfl rfl rfl
theorem s335_2362 : WP 335 0 2362 [a0, a1, a2, a3, a4, a5, a6, a7] (vI x :: S) h Q ↔ WP 335 0 2364 [a0, a1, a2, a3, a4, a5, vI x, a7] S h Q := wp_istore rfl rfl rfl
theorem s335_2364 : WP 335 0 2364 [a0, a1, vA r, a3, a4, a5, a6, a7] S h Q ↔ WP 335 0 2365 [a0, a1, vA r, a3, a4, a5, a6, a7] (vA r :: S) h Q := wp_aload rfl rfl
theorem s335_2365 : WP 335 0 2365 L (vA (some a) :: S) h Q ↔ ((hk h a).1 = 110 ∧ (zw S ≤ 8 ∧ WP 247 0 0 [vA (some a)] [] h (zret 335 0 2365 2368 L S Q))) := wp_V1 (c := 110) rfl rfl (fun _ => rfl) rfl rfl (zcan_of rfl rfl) rfl rfl rfl
theorem s335_2368 : WP 335 0 2368 [a0, a1, a2, a3, a4, vI x, a6, a7] S h Q ↔ WP 335 0 2370 [a0, a1, a2, a3, a4, vI x, a6, a7] (vI x :: S) h Q := wp_iload rfl rfl
theorem s335_2370 : WP 335 0 2370 L (vI y :: vI x :: S) h Q ↔ zif (x = y) (WP 335 0 2375 L S h Q) (WP 335 0 2373 L S h Q) := wp_bE zc_eq rfl rfl rfl
theorem s335_2373 : WP 335 0 2373 L S h Q ↔ WP 335 0 2374 L (vI 0 :: S) h Q := wp_pl rfl rfl rfl
theorem s335_2374 : WP 335 0 2374 L [vI x] h Q ↔ ((x = 0 ∨ x = 1) ∧ Q (.inl (some (vI x))) h) := wp_iret rfl rfl
theorem s335_2375 : WP 335 0 2375 [a0, a1, a2, a3, a4, vI x, a6, a7] S h Q ↔ WP 335 0 2377 [a0, a1, a2, a3, a4, vI x, a6, a7] (vI x :: S) h Q := wp_iload rfl rfl
theorem s335_2377 : WP 335 0 2377 L (vI x :: S) h Q ↔ zif (x = 0) (WP 335 0 2380 L S h Q) (WP 335 0 2399 L S h Q) := wp_bN zc_eq rfl rfl rfl
theorem s335_2380 : WP 335 0 2380 [a0, a1, a2, vA r, a4, a5, a6, a7] S h Q ↔ WP 335 0 2381 [a0, a1, a2, vA r, a4, a5, a6, a7] (vA r :: S) h Q := wp_aload rfl rfl
theorem s335_2381 : WP 335 0 2381 L S h Q ↔ WP 335 0 2382 L (vI 0 :: S) h Q := wp_pl rfl rfl rfl
theorem s335_2382 : WP 335 0 2382 L (vI x :: vA (some a) :: S) h Q ↔ (((hk h a).1 = 4 ∧ 0 ≤ x ∧ x < ((hk h a).2 : Int)) ∧ WP 335 0 2383 L (hm h a x.toNat :: S) h Q) := wp_if rfl rfl rfl
theorem s335_2383 : WP 335 0 2383 [a0, a1, a2, a3, a4, a5, vI x, a7] S h Q ↔ WP 335 0 2385 [a0, a1, a2, a3, a4, a5, vI x, a7] (vI x :: S) h Q := wp_iload rfl rfl
theorem s335_2385 : WP 335 0 2385 L (vI x :: S) h Q ↔ zif (x = 0) (WP 335 0 2392 L S h Q) (WP 335 0 2388 L S h Q) := wp_bE zc_eq rfl rfl rfl
theorem s335_2388 : WP 335 0 2388 L S h Q ↔ WP 335 0 2389 L (vL 1 :: S) h Q := wp_pl rfl rfl rfl
theorem s335_2389 : WP 335 0 2389 L S h Q ↔ WP 335 0 2393 L S h Q := wp_pl rfl rfl rfl
theorem s335_2392 : WP 335 0 2392 L S h Q ↔ WP 335 0 2393 L (vL 0 :: S) h Q := wp_pl rfl rfl rfl
theorem s335_2393 : WP 335 0 2393 L (vL y :: vL x :: S) h Q ↔ WP 335 0 2394 L (vI (zlc x y) :: S) h Q := wp_pl rfl rfl rfl
theorem s335_2394 : WP 335 0 2394 L (vI x :: S) h Q ↔ zif (x = 0) (WP 335 0 2399 L S h Q) (WP 335 0 2397 L S h Q) := wp_bE zc_eq rfl rfl rfl
theorem s335_2397 : WP 335 0 2397 L S h Q ↔ WP 335 0 2398 L (vI 0 :: S) h Q := wp_pl rfl rfl rfl
theorem s335_2398 : WP 335 0 2398 L [vI x] h Q ↔ ((x = 0 ∨ x = 1) ∧ Q (.inl (some (vI x))) h) := wp_iret rfl rfl
theorem s335_2399 : WP 335 0 2399 L S h Q ↔ WP 335 0 2799 L S h Q := wp_pl rfl rfl rfl
theorem s335_2402 : WP 335 0 2402 [a0, vA r, a2, a3, a4, a5, a6, a7] S h Q ↔ WP 335 0 2403 [a0, vA r, a2, a3, a4, a5, a6, a7] (vA r :: S) h Q := wp_aload rfl rfl
theorem s335_2403 : WP 335 0 2403 [vA r, a1, a2, a3, a4, a5, a6, a7] S h Q ↔ WP 335 0 2404 [vA r, a1, a2, a3, a4, a5, a6, a7] (vA r :: S) h Q := wp_aload rfl rfl
theorem s335_2404 : WP 335 0 2404 [a0, a1, a2, a3, vI x, a5, a6, a7] S h Q ↔ WP 335 0 2406 [a0, a1, a2, a3, vI x, a5, a6, a7] (vI x :: S) h Q := wp_iload rfl rfl
theorem s335_2406 : WP 335 0 2406 L S h Q ↔ WP 335 0 2407 L (vI 1 :: S) h Q := wp_pl rfl rfl rfl
theorem s335_2407 : WP 335 0 2407 L (vI y :: vI x :: S) h Q ↔ WP 335 0 2408 L (vI (wr (x + y)) :: S) h Q := wp_pl rfl rfl rfl
theorem s335_2408 : WP 335 0 2408 L (vI x :: vA (some a) :: S) h Q ↔ (((hk h a).1 = 1 ∧ 0 ≤ x ∧ x < ((hk h a).2 : Int)) ∧ WP 335 0 2409 L (hm h a x.toNat :: S) h Q) := wp_if rfl rfl rfl
theorem s335_2409 : WP 335 0 2409 L (vI x0 :: vA (some a) :: S) h Q ↔ ((hk h a).1 = 100 ∧ (zw S ≤ 8 ∧ WP 57 0 0 [vA (some a), vI x0, vJ, vJ, vJ, vJ] [] h (zret 335 0 2409 2412 L S Q))) := wp_V1 (c := 100) rfl rfl (fun _ => rfl) rfl rfl (zcan_of rfl rfl) rfl rfl rfl
theorem s335_2412 : WP 335 0 2412 [a0, a1, vA r, a3, a4, a5, a6, a7] S h Q ↔ WP 335 0 2413 [a0, a1, vA r, a3, a4, a5, a6, a7] (vA r :: S) h Q := wp_aload rfl rfl
theorem s335_2413 : WP 335 0 2413 [vA r, a1, a2, a3, a4, a5, a6, a7] S h Q ↔ WP 335 0 2414 [vA r, a1, a2, a3, a4, a5, a6, a7] (vA r :: S) h Q := wp_aload rfl rfl
theorem s335_2414 : WP 335 0 2414 [a0, a1, a2, a3, vI x, a5, a6, a7] S h Q ↔ WP 335 0 2416 [a0, a1, a2, a3, vI x, a5, a6, a7] (vI x :: S) h Q := wp_iload rfl rfl
theorem s335_2416 : WP 335 0 2416 L S h Q ↔ WP 335 0 2417 L (vI 1 :: S) h Q := wp_pl rfl rfl rfl
theorem s335_2417 : WP 335 0 2417 L (vI y :: vI x :: S) h Q ↔ WP 335 0 2418 L (vI (wr (x + y)) :: S) h Q := wp_pl rfl rfl rfl
theorem s335_2418 : WP 335 0 2418 L (vI x :: vA (some a) :: S) h Q ↔ (((hk h a).1 = 1 ∧ 0 ≤ x ∧ x < ((hk h a).2 : Int)) ∧ WP 335 0 2419 L (hm h a x.toNat :: S) h Q) := wp_if rfl rfl rfl
theorem s335_2419 : WP 335 0 2419 L (vI x0 :: vA (some a) :: S) h Q ↔ ((hk h a).1 = 110 ∧ (zw S ≤ 8 ∧ WP 213 0 0 [vA (some a), vI x0, vJ, vJ, vJ, vJ, vJ] [] h (zret 335 0 2419 2422 L S Q))) := wp_V1 (c := 110) rfl rfl (fun _ => rfl) rfl rfl (zcan_of rfl rfl) rfl rfl rfl
theorem s335_2422 : WP 335 0 2422 L (vI y :: vI x :: S) h Q ↔ zif (x = y) (WP 335 0 2799 L S h Q) (WP 335 0 2425 L S h Q) := wp_bE zc_eq rfl rfl rfl
theorem s335_2425 : WP 335 0 2425 L S h Q ↔ WP 335 0 2426 L (vI 0 :: S) h Q := wp_pl rfl rfl rfl
theorem s335_2426 : WP 335 0 2426 L [vI x] h Q ↔ ((x = 0 ∨ x = 1) ∧ Q (.inl (some (vI x))) h) := wp_iret rfl rfl
theorem s335_2427 : WP 335 0 2427 [a0, vA r, a2, a3, a4, a5, a6, a7] S h Q ↔ WP 335 0 2428 [a0, vA r, a2, a3, a4, a5, a6, a7] (vA r :: S) h Q := wp_aload rfl rfl
theorem s335_2428 : WP 335 0 2428 L (vA (some a) :: S) h Q ↔ ((hk h a).1 = 100 ∧ (zw S ≤ 8 ∧ WP 87 0 0 [vA (some a), vJ, vJ] [] h (zret 335 0 2428 2431 L S Q))) := wp_V1 (c := 100) rfl rfl (fun _ => rfl) rfl rfl (zcan_of rfl rfl) rfl rfl rfl
theorem s335_2431 : WP 335 0 2431 [a0, a1, vA r, a3, a4, a5, a6, a7] S h Q ↔ WP 335 0 2432 [a0, a1, vA r, a3, a4, a5, a6, a7] (vA r :: S) h Q := wp_aload rfl rfl
theorem s335_2432 : WP 335 0 2432 L (vA (some a) :: S) h Q ↔ ((hk h a).1 = 110 ∧ (zw S ≤ 8 ∧ WP 249 0 0 [vA (some a), vJ, vJ, vJ] [] h (zret 335 0 2432 2435 L S Q))) := wp_V1 (c := 110) rfl rfl (fun _ => rfl) rfl rfl (zcan_of rfl rfl) rfl rfl rfl
theorem s335_2435 : WP 335 0 2435 L (vI y :: vI x :: S) h Q ↔ zif (x = y) (WP 335 0 2799 L S h Q) (WP 335 0 2438 L S h Q) := wp_bE zc_eq rfl rfl rfl
theorem s335_2438 : WP 335 0 2438 L S h Q ↔ WP 335 0 2439 L (vI 0 :: S) h Q := wp_pl rfl rfl rfl
theorem s335_2439 : WP 335 0 2439 L [vI x] h Q ↔ ((x = 0 ∨ x = 1) ∧ Q (.inl (some (vI x))) h) := wp_iret rfl rfl
theorem s335_2440 : WP 335 0 2440 [a0, vA r, a2, a3, a4, a5, a6, a7] S h Q ↔ WP 335 0 2441 [a0, vA r, a2, a3, a4, a5, a6, a7] (vA r :: S) h Q := wp_aload rfl rfl
theorem s335_2441 : WP 335 0 2441 [vA r, a1, a2, a3, a4, a5, a6, a7] S h Q ↔ WP 335 0 2442 [vA r, a1, a2, a3, a4, a5, a6, a7] (vA r :: S) h Q := wp_aload rfl rfl
theorem s335_2442 : WP 335 0 2442 [a0, a1, a2, a3, vI x, a5, a6, a7] S h Q ↔ WP 335 0 2444 [a0, a1, a2, a3, vI x, a5, a6, a7] (vI x :: S) h Q := wp_iload rfl rfl
theorem s335_2444 : WP 335 0 2444 L S h Q ↔ WP 335 0 2445 L (vI 1 :: S) h Q := wp_pl rfl rfl rfl
theorem s335_2445 : WP 335 0 2445 L (vI y :: vI x :: S) h Q ↔ WP 335 0 2446 L (vI (wr (x + y)) :: S) h Q := wp_pl rfl rfl rfl
theorem s335_2446 : WP 335 0 2446 L (vI x :: vA (some a) :: S) h Q ↔ (((hk h a).1 = 1 ∧ 0 ≤ x ∧ x < ((hk h a).2 : Int)) ∧ WP 335 0 2447 L (hm h a x.toNat :: S) h Q) := wp_if rfl rfl rfl
theorem s335_2447 : WP 335 0 2447 [a0, a1, a2, vA r, a4, a5, a6, a7] S h Q ↔ WP 335 0 2448 [a0, a1, a2, vA r, a4, a5, a6, a7] (vA r :: S) h Q := wp_aload rfl rfl
theorem s335_2448 : WP 335 0 2448 L (vA r2 :: vI x1 :: vA r0 :: S) h Q ↔ (zw S ≤ 8 ∧ WP 351 0 0 [vA r0, vI x1, vA r2, vJ] [] h (zret 335 0 2448 2451 L S Q)) := wp_S rfl rfl (zcan_of rfl rfl) rfl rfl rfl
theorem s335_2451 : WP 335 0 2451 [a0, a1, a2, a3, a4, a5, a6, a7] (vI x :: S) h Q ↔ WP 335 0 2453 [a0, a1, a2, a3, a4, vI x, a6, a7] S h Q := wp_istore rfl rfl rfl
theorem s335_2453 : WP 335 0 2453 [a0, a1, vA r, a3, a4, a5, a6, a7] S h Q ↔ WP 335 0 2454 [a0, a1, vA r, a3, a4, a5, a6, a7] (vA r :: S) h Q := wp_aload rfl rfl
theorem s335_2454 : WP 335 0 2454 [vA r, a1, a2, a3, a4, a5, a6, a7] S h Q ↔ WP 335 0 2455 [vA r, a1, a2, a3, a4, a5, a6, a7] (vA r :: S) h Q := wp_aload rfl rfl
theorem s335_2455 : WP 335 0 2455 [a0, a1, a2, a3, vI x, a5, a6, a7] S h Q ↔ WP 335 0 2457 [a0, a1, a2, a3, vI x, a5, a6, a7] (vI x :: S) h Q := wp_iload rfl rfl
theorem s335_2457 : WP 335 0 2457 L S h Q ↔ WP 335 0 2458 L (vI 1 :: S) h Q := wp_pl rfl rfl rfl
theorem s335_2458 : WP 335 0 2458 L (vI y :: vI x :: S) h Q ↔ WP 335 0 2459 L (vI (wr (x + y)) :: S) h Q := wp_pl rfl rfl rfl
theorem s335_2459 : WP 335 0 2459 L (vI x :: vA (some a) :: S) h Q ↔ (((hk h a).1 = 1 ∧ 0 ≤ x ∧ x < ((hk h a).2 : Int)) ∧ WP 335 0 2460 L (hm h a x.toNat :: S) h Q) := wp_if rfl rfl rfl
theorem s335_2460 : WP 335 0 2460 L (vI x0 :: vA (some a) :: S) h Q ↔ ((hk h a).1 = 110 ∧ (zw S ≤ 8 ∧ WP 208 0 0 [vA (some a), vI x0, vJ, vJ, vJ] [] h (zret 335 0 2460 2463 L S Q))) := wp_V1 (c := 110) rfl rfl (fun _ => rfl) rfl rfl (zcan_of rfl rfl) rfl rfl rfl
theorem s335_2463 : WP 335 0 2463 [a0, a1, a2, a3, a4, a5, a6, a7] (vI x :: S) h Q ↔ WP 335 0 2465 [a0, a1, a2, a3, a4, a5, vI x, a7] S h Q := wp_istore rfl rfl rfl
theorem s335_2465 : WP 335 0 2465 [a0, a1, vA r, a3, a4, a5, a6, a7] S h Q ↔ WP 335 0 2466 [a0, a1, vA r, a3, a4, a5, a6, a7] (vA r :: S) h Q := wp_aload rfl rfl
theorem s335_2466 : WP 335 0 2466 L (vA (some a) :: S) h Q ↔ ((hk h a).1 = 110 ∧ (zw S ≤ 8 ∧ WP 247 0 0 [vA (some a)] [] h (zret 335 0 2466 2469 L S Q))) := wp_V1 (c := 110) rfl rfl (fun _ => rfl) rfl rfl (zcan_of rfl rfl) rfl rfl rfl
theorem s335_2469 : WP 335 0 2469 [a0, a1, a2, a3, a4, vI x, a6, a7] S h Q ↔ WP 335 0 2471 [a0, a1, a2, a3, a4, vI x, a6, a7] (vI x :: S) h Q := wp_iload rfl rfl
theorem s335_2471 : WP 335 0 2471 L (vI y :: vI x :: S) h Q ↔ zif (x = y) (WP 335 0 2476 L S h Q) (WP 335 0 2474 L S h Q) := wp_bE zc_eq rfl rfl rfl
theorem s335_2474 : WP 335 0 2474 L S h Q ↔ WP 335 0 2475 L (vI 0 :: S) h Q := wp_pl rfl rfl rfl
theorem s335_2475 : WP 335 0 2475 L [vI x] h Q ↔ ((x = 0 ∨ x = 1) ∧ Q (.inl (some (vI x))) h) := wp_iret rfl rfl
theorem s335_2476 : WP 335 0 2476 [a0, a1, a2, a3, a4, vI x, a6, a7] S h Q ↔ WP 335 0 2478 [a0, a1, a2, a3, a4, vI x, a6, a7] (vI x :: S) h Q := wp_iload rfl rfl
theorem s335_2478 : WP 335 0 2478 L (vI x :: S) h Q ↔ zif (x = 0) (WP 335 0 2481 L S h Q) (WP 335 0 2493 L S h Q) := wp_bN zc_eq rfl rfl rfl
theorem s335_2481 : WP 335 0 2481 [a0, a1, a2, vA r, a4, a5, a6, a7] S h Q ↔ WP 335 0 2482 [a0, a1, a2, vA r, a4, a5, a6, a7] (vA r :: S) h Q := wp_aload rfl rfl
theorem s335_2482 : WP 335 0 2482 L S h Q ↔ WP 335 0 2483 L (vI 0 :: S) h Q := wp_pl rfl rfl rfl
theorem s335_2483 : WP 335 0 2483 L (vI x :: vA (some a) :: S) h Q ↔ (((hk h a).1 = 4 ∧ 0 ≤ x ∧ x < ((hk h a).2 : Int)) ∧ WP 335 0 2484 L (hm h a x.toNat :: S) h Q) := wp_if rfl rfl rfl
theorem s335_2484 : WP 335 0 2484 [a0, a1, a2, a3, a4, a5, vI x, a7] S h Q ↔ WP 335 0 2486 [a0, a1, a2, a3, a4, a5, vI x, a7] (vI x :: S) h Q := wp_iload rfl rfl
theorem s335_2486 : WP 335 0 2486 L (vI x :: S) h Q ↔ WP 335 0 2487 L (vL x :: S) h Q := wp_pl rfl rfl rfl
theorem s335_2487 : WP 335 0 2487 L (vL y :: vL x :: S) h Q ↔ WP 335 0 2488 L (vI (zlc x y) :: S) h Q := wp_pl rfl rfl rfl
theorem s335_2488 : WP 335 0 2488 L (vI x :: S) h Q ↔ zif (x = 0) (WP 335 0 2493 L S h Q) (WP 335 0 2491 L S h Q) := wp_bE zc_eq rfl rfl rfl
theorem s335_2491 : WP 335 0 2491 L S h Q ↔ WP 335 0 2492 L (vI 0 :: S) h Q := wp_pl rfl rfl rfl
theorem s335_2492 : WP 335 0 2492 L [vI x] h Q ↔ ((x = 0 ∨ x = 1) ∧ Q (.inl (some (vI x))) h) := wp_iret rfl rfl
theorem s335_2493 : WP 335 0 2493 L S h Q ↔ WP 335 0 2799 L S h Q := wp_pl rfl rfl rfl
theorem s335_2496 : WP 335 0 2496 [a0, vA r, a2, a3, a4, a5, a6, a7] S h Q ↔ WP 335 0 2497 [a0, vA r, a2, a3, a4, a5, a6, a7] (vA r :: S) h Q := wp_aload rfl rfl
theorem s335_2497 : WP 335 0 2497 [vA r, a1, a2, a3, a4, a5, a6, a7] S h Q ↔ WP 335 0 2498 [vA r, a1, a2, a3, a4, a5, a6, a7] (vA r :: S) h Q := wp_aload rfl rfl
theorem s335_2498 : WP 335 0 2498 [a0, a1, a2, a3, vI x, a5, a6, a7] S h Q ↔ WP 335 0 2500 [a0, a1, a2, a3, vI x, a5, a6, a7] (vI x :: S) h Q := wp_iload rfl rfl
theorem s335_2500 : WP 335 0 2500 L S h Q ↔ WP 335 0 2501 L (vI 1 :: S) h Q := wp_pl rfl rfl rfl
theorem s335_2501 : WP 335 0 2501 L (vI y :: vI x :: S) h Q ↔ WP 335 0 2502 L (vI (wr (x + y)) :: S) h Q := wp_pl rfl rfl rfl
theorem s335_2502 : WP 335 0 2502 L (vI x :: vA (some a) :: S) h Q ↔ (((hk h a).1 = 1 ∧ 0 ≤ x ∧ x < ((hk h a).2 : Int)) ∧ WP 335 0 2503 L (hm h a x.toNat :: S) h Q) := wp_if rfl rfl rfl
theorem s335_2503 : WP 335 0 2503 [vA r, a1, a2, a3, a4, a5, a6, a7] S h Q ↔ WP 335 0 2504 [vA r, a1, a2, a3, a4, a5, a6, a7] (vA r :: S) h Q := wp_aload rfl rfl
theorem s335_2504 : WP 335 0 2504 [a0, a1, a2, a3, vI x, a5, a6, a7] S h Q ↔ WP 335 0 2506 [a0, a1, a2, a3, vI x, a5, a6, a7] (vI x :: S) h Q := wp_iload rfl rfl
theorem s335_2506 : WP 335 0 2506 L S h Q ↔ WP 335 0 2507 L (vI 2 :: S) h Q := wp_pl rfl rfl rfl
theorem s335_2507 : WP 335 0 2507 L (vI y :: vI x :: S) h Q ↔ WP 335 0 2508 L (vI (wr (x + y)) :: S) h Q := wp_pl rfl rfl rfl
theorem s335_2508 : WP 335 0 2508 L (vI x :: vA (some a) :: S) h Q ↔ (((hk h a).1 = 1 ∧ 0 ≤ x ∧ x < ((hk h a).2 : Int)) ∧ WP 335 0 2509 L (hm h a x.toNat :: S) h Q) := wp_if rfl rfl rfl
theorem s335_2509 : WP 335 0 2509 [vA r, a1, a2, a3, a4, a5, a6, a7] S h Q ↔ WP 335 0 2510 [vA r, a1, a2, a3, a4, a5, a6, a7] (vA r :: S) h Q := wp_aload rfl rfl
theorem s335_2510 : WP 335 0 2510 [a0, a1, a2, a3, vI x, a5, a6, a7] S h Q ↔ WP 335 0 2512 [a0, a1, a2, a3, vI x, a5, a6, a7] (vI x :: S) h Q := wp_iload rfl rfl
theorem s335_2512 : WP 335 0 2512 L S h Q ↔ WP 335 0 2513 L (vI 3 :: S) h Q := wp_pl rfl rfl rfl
theorem s335_2513 : WP 335 0 2513 L (vI y :: vI x :: S) h Q ↔ WP 335 0 2514 L (vI (wr (x + y)) :: S) h Q := wp_pl rfl rfl rfl
theorem s335_2514 : WP 335 0 2514 L (vI x :: vA (some a) :: S) h Q ↔ (((hk h a).1 = 1 ∧ 0 ≤ x ∧ x < ((hk h a).2 : Int)) ∧ WP 335 0 2515 L (hm h a x.toNat :: S) h Q) := wp_if rfl rfl rfl
theorem s335_2515 : WP 335 0 2515 [a0, a1, a2, vA r, a4, a5, a6, a7] S h Q ↔ WP 335 0 2516 [a0, a1, a2, vA r, a4, a5, a6, a7] (vA r :: S) h Q := wp_aload rfl rfl
theorem s335_2516 : WP 335 0 2516 L (vA r4 :: vI x3 :: vI x2 :: vI x1 :: vA r0 :: S) h Q ↔ (zw S ≤ 8 ∧ WP 341 0 0 [vA r0, vI x1, vI x2, vI x3, vA r4, vJ] [] h (zret 335 0 2516 2519 L S Q)) := wp_S rfl rfl (zcan_of rfl rfl) rfl rfl rfl
theorem s335_2519 : WP 335 0 2519 [a0, a1, a2, a3, a4, a5, a6, a7] (vI x :: S) h Q ↔ WP 335 0 2521 [a0, a1, a2, a3, a4, vI x, a6, a7] S h Q := wp_istore rfl rfl rfl
theorem s335_2521 : WP 335 0 2521 [a0, a1, vA r, a3, a4, a5, a6, a7] S h Q ↔ WP 335 0 2522 [a0, a1, vA r, a3, a4, a5, a6, a7] (vA r :: S) h Q := wp_aload rfl rfl
theorem s335_2522 : WP 335 0 2522 [vA r, a1, a2, a3, a4, a5, a6, a7] S h Q ↔ WP 335 0 2523 [vA r, a1, a2, a3, a4, a5, a6, a7] (vA r :: S) h Q := wp_aload rfl rfl
theorem s335_2523 : WP 335 0 2523 [a0, a1, a2, a3, vI x, a5, a6, a7] S h Q ↔ WP 335 0 2525 [a0, a1, a2, a3, vI x, a5, a6, a7] (vI x :: S) h Q := wp_iload rfl rfl
theorem s335_2525 : WP 335 0 2525 L S h Q ↔ WP 335 0 2526 L (vI 1 :: S) h Q := wp_pl rfl rfl rfl
theorem s335_2526 : WP 335 0 2526 L (vI y :: vI x :: S) h Q ↔ WP 335 0 2527 L (vI (wr (x + y)) :: S) h Q := wp_pl rfl rfl rfl
theorem s335_2527 : WP 335 0 2527 L (vI x :: vA (some a) :: S) h Q ↔ (((hk h a).1 = 1 ∧ 0 ≤ x ∧ x < ((hk h a).2 : Int)) ∧ WP 335 0 2528 L (hm h a x.toNat :: S) h Q) := wp_if rfl rfl rfl
theorem s335_2528 : WP 335 0 2528 [vA r, a1, a2, a3, a4, a5, a6, a7] S h Q ↔ WP 335 0 2529 [vA r, a1, a2, a3, a4, a5, a6, a7] (vA r :: S) h Q := wp_aload rfl rfl
theorem s335_2529 : WP 335 0 2529 [a0, a1, a2, a3, vI x, a5, a6, a7] S h Q ↔ WP 335 0 2531 [a0, a1, a2, a3, vI x, a5, a6, a7] (vI x :: S) h Q := wp_iload rfl rfl
theorem s335_2531 : WP 335 0 2531 L S h Q ↔ WP 335 0 2532 L (vI 2 :: S) h Q := wp_pl rfl rfl rfl
theorem s335_2532 : WP 335 0 2532 L (vI y :: vI x :: S) h Q ↔ WP 335 0 2533 L (vI (wr (x + y)) :: S) h Q := wp_pl rfl rfl rfl
theorem s335_2533 : WP 335 0 2533 L (vI x :: vA (some a) :: S) h Q ↔ (((hk h a).1 = 1 ∧ 0 ≤ x ∧ x < ((hk h a).2 : Int)) ∧ WP 335 0 2534 L (hm h a x.toNat :: S) h Q) := wp_if rfl rfl rfl
theorem s335_2534 : WP 335 0 2534 [vA r, a1, a2, a3, a4, a5, a6, a7] S h Q ↔ WP 335 0 2535 [vA r, a1, a2, a3, a4, a5, a6, a7] (vA r :: S) h Q := wp_aload rfl rfl
theorem s335_2535 : WP 335 0 2535 [a0, a1, a2, a3, vI x, a5, a6, a7] S h Q ↔ WP 335 0 2537 [a0, a1, a2, a3, vI x, a5, a6, a7] (vI x :: S) h Q := wp_iload rfl rfl
theorem s335_2537 : WP 335 0 2537 L S h Q ↔ WP 335 0 2538 L (vI 3 :: S) h Q := wp_pl rfl rfl rfl
theorem s335_2538 : WP 335 0 2538 L (vI y :: vI x :: S) h Q ↔ WP 335 0 2539 L (vI (wr (x + y)) :: S) h Q := wp_pl rfl rfl rfl
theorem s335_2539 : WP 335 0 2539 L (vI x :: vA (some a) :: S) h Q ↔ (((hk h a).1 = 1 ∧ 0 ≤ x ∧ x < ((hk h a).2 : Int)) ∧ WP 335 0 2540 L (hm h a x.toNat :: S) h Q) := wp_if rfl rfl rfl
theorem s335_2540 : WP 335 0 2540 L (vI x2 :: vI x1 :: vI x0 :: vA (some a) :: S) h Q ↔ ((hk h a).1 = 110 ∧ (zw S ≤ 8 ∧ WP 164 0 0 [vA (some a), vI x0, vI x1, vI x2, vJ, vJ, vJ] [] h (zret 335 0 2540 2543 L S Q))) := wp_V1 (c := 110) rfl rfl (fun _ => rfl) rfl rfl (zcan_of rfl rfl) rfl rfl rfl
theorem s335_2543 : WP 335 0 2543 [a0, a1, a2, a3, a4, a5, a6, a7] (vI x :: S) h Q ↔ WP 335 0 2545 [a0, a1, a2, a3, a4, a5, vI x, a7] S h Q := wp_istore rfl rfl rfl
theorem s335_2545 : WP 335 0 2545 [a0, a1, vA r, a3, a4, a5, a6, a7] S h Q ↔ WP 335 0 2546 [a0, a1, vA r, a3, a4, a5, a6, a7] (vA r :: S) h Q := wp_aload rfl rfl
theorem s335_2546 : WP 335 0 2546 L (vA (some a) :: S) h Q ↔ ((hk h a).1 = 110 ∧ (zw S ≤ 8 ∧ WP 247 0 0 [vA (some a)] [] h (zret 335 0 2546 2549 L S Q))) := wp_V1 (c := 110) rfl rfl (fun _ => rfl) rfl rfl (zcan_of rfl rfl) rfl rfl rfl
theorem s335_2549 : WP 335 0 2549 [a0, a1, a2, a3, a4, vI x, a6, a7] S h Q ↔ WP 335 0 2551 [a0, a1, a2, a3, a4, vI x, a6, a7] (vI x :: S) h Q := wp_iload rfl rfl
theorem s335_2551 : WP 335 0 2551 L (vI y :: vI x :: S) h Q ↔ zif (x = y) (WP 335 0 2556 L S h Q) (WP 335 0 2554 L S h Q) := wp_bE zc_eq rfl rfl rfl
theorem s335_2554 : WP 335 0 2554 L S h Q ↔ WP 335 0 2555 L (vI 0 :: S) h Q := wp_pl rfl rfl rfl
theorem s335_2555 : WP 335 0 2555 L [vI x] h Q ↔ ((x = 0 ∨ x = 1) ∧ Q (.inl (some (vI x))) h) := wp_iret rfl rfl
theorem s335_2556 : WP 335 0 2556 [a0, a1, a2, a3, a4, vI x, a6, a7] S h Q ↔ WP 335 0 2558 [a0, a1, a2, a3, a4, vI x, a6, a7] (vI x :: S) h Q := wp_iload rfl rfl
theorem s335_2558 : WP 335 0 2558 L (vI x :: S) h Q ↔ zif (x = 0) (WP 335 0 2561 L S h Q) (WP 335 0 2573 L S h Q) := wp_bN zc_eq rfl rfl rfl
theorem s335_2561 : WP 335 0 2561 [a0, a1, a2, vA r, a4, a5, a6, a7] S h Q ↔ WP 335 0 2562 [a0, a1, a2, vA r, a4, a5, a6, a7] (vA r :: S) h Q := wp_aload rfl rfl
theorem s335_2562 : WP 335 0 2562 L S h Q ↔ WP 335 0 2563 L (vI 0 :: S) h Q := wp_pl rfl rfl rfl
theorem s335_2563 : WP 335 0 2563 L (vI x :: vA (some a) :: S) h Q ↔ (((hk h a).1 = 4 ∧ 0 ≤ x ∧ x < ((hk h a).2 : Int)) ∧ WP 335 0 2564 L (hm h a x.toNat :: S) h Q) := wp_if rfl rfl rfl
theorem s335_2564 : WP 335 0 2564 [a0, a1, a2, a3, a4, a5, vI x, a7] S h Q ↔ WP 335 0 2566 [a0, a1, a2, a3, a4, a5, vI x, a7] (vI x :: S) h Q := wp_iload rfl rfl
theorem s335_2566 : WP 335 0 2566 L (vI x :: S) h Q ↔ WP 335 0 2567 L (vL x :: S) h Q := wp_pl rfl rfl rfl
theorem s335_2567 : WP 335 0 2567 L (vL y :: vL x :: S) h Q ↔ WP 335 0 2568 L (vI (zlc x y) :: S) h Q := wp_pl rfl rfl rfl
theorem s335_2568 : WP 335 0 2568 L (vI x :: S) h Q ↔ zif (x = 0) (WP 335 0 2573 L S h Q) (WP 335 0 2571 L S h Q) := wp_bE zc_eq rfl rfl rfl
theorem s335_2571 : WP 335 0 2571 L S h Q ↔ WP 335 0 2572 L (vI 0 :: S) h Q := wp_pl rfl rfl rfl
theorem s335_2572 : WP 335 0 2572 L [vI x] h Q ↔ ((x = 0 ∨ x = 1) ∧ Q (.inl (some (vI x))) h) := wp_iret rfl rfl
theorem s335_2573 : WP 335 0 2573 L S h Q ↔ WP 335 0 2799 L S h Q := wp_pl rfl rfl rfl
theorem s335_2576 : WP 335 0 2576 [a0, vA r, a2, a3, a4, a5, a6, a7] S h Q ↔ WP 335 0 2577 [a0, vA r, a2, a3, a4, a5, a6, a7] (vA r :: S) h Q := wp_aload rfl rfl
theorem s335_2577 : WP 335 0 2577 [vA r, a1, a2, a3, a4, a5, a6, a7] S h Q ↔ WP 335 0 2578 [vA r, a1, a2, a3, a4, a5, a6, a7] (vA r :: S) h Q := wp_aload rfl rfl
theorem s335_2578 : WP 335 0 2578 [a0, a1, a2, a3, vI x, a5, a6, a7] S h Q ↔ WP 335 0 2580 [a0, a1, a2, a3, vI x, a5, a6, a7] (vI x :: S) h Q := wp_iload rfl rfl
theorem s335_2580 : WP 335 0 2580 L S h Q ↔ WP 335 0 2581 L (vI 1 :: S) h Q := wp_pl rfl rfl rfl
theorem s335_2581 : WP 335 0 2581 L (vI y :: vI x :: S) h Q ↔ WP 335 0 2582 L (vI (wr (x + y)) :: S) h Q := wp_pl rfl rfl rfl
theorem s335_2582 : WP 335 0 2582 L (vI x :: vA (some a) :: S) h Q ↔ (((hk h a).1 = 1 ∧ 0 ≤ x ∧ x < ((hk h a).2 : Int)) ∧ WP 335 0 2583 L (hm h a x.toNat :: S) h Q) := wp_if rfl rfl rfl
theorem s335_2583 : WP 335 0 2583 [a0, a1, a2, vA r, a4, a5, a6, a7] S h Q ↔ WP 335 0 2584 [a0, a1, a2, vA r, a4, a5, a6, a7] (vA r :: S) h Q := wp_aload rfl rfl
theorem s335_2584 : WP 335 0 2584 L (vA r2 :: vI x1 :: vA r0 :: S) h Q ↔ (zw S ≤ 8 ∧ WP 365 0 0 [vA r0, vI x1, vA r2, vJ] [] h (zret 335 0 2584 2587 L S Q)) := wp_S rfl rfl (zcan_of rfl rfl) rfl rfl rfl
theorem s335_2587 : WP 335 0 2587 [a0, a1, a2, a3, a4, a5, a6, a7] (vI x :: S) h Q ↔ WP 335 0 2589 [a0, a1, a2, a3, a4, vI x, a6, a7] S h Q := wp_istore rfl rfl rfl
theorem s335_2589 : WP 335 0 2589 [a0, a1, vA r, a3, a4, a5, a6, a7] S h Q ↔ WP 335 0 2590 [a0, a1, vA r, a3, a4, a5, a6, a7] (vA r :: S) h Q := wp_aload rfl rfl
theorem s335_2590 : WP 335 0 2590 [vA r, a1, a2, a3, a4, a5, a6, a7] S h Q ↔ WP 335 0 2591 [vA r, a1, a2, a3, a4, a5, a6, a7] (vA r :: S) h Q := wp_aload rfl rfl
theorem s335_2591 : WP 335 0 2591 [a0, a1, a2, a3, vI x, a5, a6, a7] S h Q ↔ WP 335 0 2593 [a0, a1, a2, a3, vI x, a5, a6, a7] (vI x :: S) h Q := wp_iload rfl rfl
theorem s335_2593 : WP 335 0 2593 L S h Q ↔ WP 335 0 2594 L (vI 1 :: S) h Q := wp_pl rfl rfl rfl
theorem s335_2594 : WP 335 0 2594 L (vI y :: vI x :: S) h Q ↔ WP 335 0 2595 L (vI (wr (x + y)) :: S) h Q := wp_pl rfl rfl rfl
theorem s335_2595 : WP 335 0 2595 L (vI x :: vA (some a) :: S) h Q ↔ (((hk h a).1 = 1 ∧ 0 ≤ x ∧ x < ((hk h a).2 : Int)) ∧ WP 335 0 2596 L (hm h a x.toNat :: S) h Q) := wp_if rfl rfl rfl
theorem s335_2596 : WP 335 0 2596 L (vI x0 :: vA (some a) :: S) h Q ↔ ((hk h a).1 = 110 ∧ (zw S ≤ 8 ∧ WP 242 0 0 [vA (some a), vI x0, vJ, vJ, vJ, vJ, vJ] [] h (zret 335 0 2596 2599 L S Q))) := wp_V1 (c := 110) rfl rfl (fun _ => rfl) rfl rfl (zcan_of rfl rfl) rfl rfl rfl
theorem s335_2599 : WP 335 0 2599 [a0, a1, a2, a3, a4, a5, a6, a7] (vL x :: S) h Q ↔ WP 335 0 2601 [a0, a1, a2, a3, a4, a5, vL x, vJ] S h Q := wp_lstore rfl rfl rfl
theorem s335_2601 : WP 335 0 2601 [a0, a1, vA r, a3, a4, a5, a6, a7] S h Q ↔ WP 335 0 2602 [a0, a1, vA r, a3, a4, a5, a6, a7] (vA r :: S) h Q := wp_aload rfl rfl
theorem s335_2602 : WP 335 0 2602 L (vA (some a) :: S) h Q ↔ ((hk h a).1 = 110 ∧ (zw S ≤ 8 ∧ WP 247 0 0 [vA (some a)] [] h (zret 335 0 2602 2605 L S Q))) := wp_V1 (c := 110) rfl rfl (fun _ => rfl) rfl rfl (zcan_of rfl rfl) rfl rfl rfl
theorem s335_2605 : WP 335 0 2605 [a0, a1, a2, a3, a4, vI x, a6, a7] S h Q ↔ WP 335 0 2607 [a0, a1, a2, a3, a4, vI x, a6, a7] (vI x :: S) h Q := wp_iload rfl rfl
theorem s335_2607 : WP 335 0 2607 L (vI y :: vI x :: S) h Q ↔ zif (x = y) (WP 335 0 2612 L S h Q) (WP 335 0 2610 L S h Q) := wp_bE zc_eq rfl rfl rfl
theorem s335_2610 : WP 335 0 2610 L S h Q ↔ WP 335 0 2611 L (vI 0 :: S) h Q := wp_pl rfl rfl rfl
theorem s335_2611 : WP 335 0 2611 L [vI x] h Q ↔ ((x = 0 ∨ x = 1) ∧ Q (.inl (some (vI x))) h) := wp_iret rfl rfl
theorem s335_2612 : WP 335 0 2612 [a0, a1, a2, a3, a4, vI x, a6, a7] S h Q ↔ WP 335 0 2614 [a0, a1, a2, a3, a4, vI x, a6, a7] (vI x :: S) h Q := wp_iload rfl rfl
theorem s335_2614 : WP 335 0 2614 L (vI x :: S) h Q ↔ zif (x = 0) (WP 335 0 2617 L S h Q) (WP 335 0 2628 L S h Q) := wp_bN zc_eq rfl rfl rfl
theorem s335_2617 : WP 335 0 2617 [a0, a1, a2, vA r, a4, a5, a6, a7] S h Q ↔ WP 335 0 2618 [a0, a1, a2, vA r, a4, a5, a6, a7] (vA r :: S) h Q := wp_aload rfl rfl
theorem s335_2618 : WP 335 0 2618 L S h Q ↔ WP 335 0 2619 L (vI 0 :: S) h Q := wp_pl rfl rfl rfl
theorem s335_2619 : WP 335 0 2619 L (vI x :: vA (some a) :: S) h Q ↔ (((hk h a).1 = 4 ∧ 0 ≤ x ∧ x < ((hk h a).2 : Int)) ∧ WP 335 0 2620 L (hm h a x.toNat :: S) h Q) := wp_if rfl rfl rfl
theorem s335_2620 : WP 335 0 2620 [a0, a1, a2, a3, a4, a5, vL x, vJ] S h Q ↔ WP 335 0 2622 [a0, a1, a2, a3, a4, a5, vL x, vJ] (vL x :: S) h Q := wp_lload rfl rfl rfl
theorem s335_2622 : WP 335 0 2622 L (vL y :: vL x :: S) h Q ↔ WP 335 0 2623 L (vI (zlc x y) :: S) h Q := wp_pl rfl rfl rfl
theorem s335_2623 : WP 335 0 2623 L (vI x :: S) h Q ↔ zif (x = 0) (WP 335 0 2628 L S h Q) (WP 335 0 2626 L S h Q) := wp_bE zc_eq rfl rfl rfl
theorem s335_2626 : WP 335 0 2626 L S h Q ↔ WP 335 0 2627 L (vI 0 :: S) h Q := wp_pl rfl rfl rfl
theorem s335_2627 : WP 335 0 2627 L [vI x] h Q ↔ ((x = 0 ∨ x = 1) ∧ Q (.inl (some (vI x))) h) := wp_iret rfl rfl
theorem s335_2628 : WP 335 0 2628 L S h Q ↔ WP 335 0 2799 L S h Q := wp_pl rfl rfl rfl
theorem s335_2631 : WP 335 0 2631 [a0, vA r, a2, a3, a4, a5, a6, a7] S h Q ↔ WP 335 0 2632 [a0, vA r, a2, a3, a4, a5, a6, a7] (vA r :: S) h Q := wp_aload rfl rfl
theorem s335_2632 : WP 335 0 2632 [vA r, a1, a2, a3, a4, a5, a6, a7] S h Q ↔ WP 335 0 2633 [vA r, a1, a2, a3, a4, a5, a6, a7] (vA r :: S) h Q := wp_aload rfl rfl
theorem s335_2633 : WP 335 0 2633 [a0, a1, a2, a3, vI x, a5, a6, a7] S h Q ↔ WP 335 0 2635 [a0, a1, a2, a3, vI x, a5, a6, a7] (vI x :: S) h Q := wp_iload rfl rfl
theorem s335_2635 : WP 335 0 2635 L S h Q ↔ WP 335 0 2636 L (vI 1 :: S) h Q := wp_pl rfl rfl rfl
theorem s335_2636 : WP 335 0 2636 L (vI y :: vI x :: S) h Q ↔ WP 335 0 2637 L (vI (wr (x + y)) :: S) h Q := wp_pl rfl rfl rfl
theorem s335_2637 : WP 335 0 2637 L (vI x :: vA (some a) :: S) h Q ↔ (((hk h a).1 = 1 ∧ 0 ≤ x ∧ x < ((hk h a).2 : Int)) ∧ WP 335 0 2638 L (hm h a x.toNat :: S) h Q) := wp_if rfl rfl rfl
theorem s335_2638 : WP 335 0 2638 [a0, a1, a2, vA r, a4, a5, a6, a7] S h Q ↔ WP 335 0 2639 [a0, a1, a2, vA r, a4, a5, a6, a7] (vA r :: S) h Q := wp_aload rfl rfl
theorem s335_2639 : WP 335 0 2639 L (vA r2 :: vI x1 :: vA r0 :: S) h Q ↔ (zw S ≤ 8 ∧ WP 339 0 0 [vA r0, vI x1, vA r2, vJ] [] h (zret 335 0 2639 2642 L S Q)) := wp_S rfl rfl (zcan_of rfl rfl) rfl rfl rfl
theorem s335_2642 : WP 335 0 2642 [a0, a1, a2, a3, a4, a5, a6, a7] (vI x :: S) h Q ↔ WP 335 0 2644 [a0, a1, a2, a3, a4, vI x, a6, a7] S h Q := wp_istore rfl rfl rfl
theorem s335_2644 : WP 335 0 2644 [a0, a1, vA r, a3, a4, a5, a6, a7] S h Q ↔ WP 335 0 2645 [a0, a1, vA r, a3, a4, a5, a6, a7] (vA r :: S) h Q := wp_aload rfl rfl
theorem s335_2645 : WP 335 0 2645 [vA r, a1, a2, a3, a4, a5, a6, a7] S h Q ↔ WP 335 0 2646 [vA r, a1, a2, a3, a4, a5, a6, a7] (vA r :: S) h Q := wp_aload rfl rfl
theorem s335_2646 : WP 335 0 2646 [a0, a1, a2, a3, vI x, a5, a6, a7] S h Q ↔ WP 335 0 2648 [a0, a1, a2, a3, vI x, a5, a6, a7] (vI x :: S) h Q := wp_iload rfl rfl
theorem s335_2648 : WP 335 0 2648 L S h Q ↔ WP 335 0 2649 L (vI 1 :: S) h Q := wp_pl rfl rfl rfl
theorem s335_2649 : WP 335 0 2649 L (vI y :: vI x :: S) h Q ↔ WP 335 0 2650 L (vI (wr (x + y)) :: S) h Q := wp_pl rfl rfl rfl
theorem s335_2650 : WP 335 0 2650 L (vI x :: vA (some a) :: S) h Q ↔ (((hk h a).1 = 1 ∧ 0 ≤ x ∧ x < ((hk h a).2 : Int)) ∧ WP 335 0 2651 L (hm h a x.toNat :: S) h Q) := wp_if rfl rfl rfl
theorem s335_2651 : WP 335 0 2651 L (vI x0 :: vA (some a) :: S) h Q ↔ ((hk h a).1 = 110 ∧ (zw S ≤ 8 ∧ WP 150 0 0 [vA (some a), vI x0, vJ, vJ, vJ, vJ] [] h (zret 335 0 2651 2654 L S Q))) := wp_V1 (c := 110) rfl rfl (fun _ => rfl) rfl rfl (zcan_of rfl rfl) rfl rfl rfl
theorem s335_2654 : WP 335 0 2654 [a0, a1, a2, a3, a4, a5, a6, a7] (vI x :: S) h Q ↔ WP 335 0 2656 [a0, a1, a2, a3, a4, a5, vI x, a7] S h Q := wp_istore rfl rfl rfl
theorem s335_2656 : WP 335 0 2656 [a0, a1, vA r, a3, a4, a5, a6, a7] S h Q ↔ WP 335 0 2657 [a0, a1, vA r, a3, a4, a5, a6, a7] (vA r :: S) h Q := wp_aload rfl rfl
theorem s335_2657 : WP 335 0 2657 L (vA (some a) :: S) h Q ↔ ((hk h a).1 = 110 ∧ (zw S ≤ 8 ∧ WP 247 0 0 [vA (some a)] [] h (zret 335 0 2657 2660 L S Q))) := wp_V1 (c := 110) rfl rfl (fun _ => rfl) rfl rfl (zcan_of rfl rfl) rfl rfl rfl
theorem s335_2660 : WP 335 0 2660 [a0, a1, a2, a3, a4, vI x, a6, a7] S h Q ↔ WP 335 0 2662 [a0, a1, a2, a3, a4, vI x, a6, a7] (vI x :: S) h Q := wp_iload rfl rfl
theorem s335_2662 : WP 335 0 2662 L (vI y :: vI x :: S) h Q ↔ zif (x = y) (WP 335 0 2667 L S h Q) (WP 335 0 2665 L S h Q) := wp_bE zc_eq rfl rfl rfl
theorem s335_2665 : WP 335 0 2665 L S h Q ↔ WP 335 0 2666 L (vI 0 :: S) h Q := wp_pl rfl rfl rfl
theorem s335_2666 : WP 335 0 2666 L [vI x] h Q ↔ ((x = 0 ∨ x = 1) ∧ Q (.inl (some (vI x))) h) := wp_iret rfl rfl
theorem s335_2667 : WP 335 0 2667 [a0, a1, a2, a3, a4, vI x, a6, a7] S h Q ↔ WP 335 0 2669 [a0, a1, a2, a3, a4, vI x, a6, a7] (vI x :: S) h Q := wp_iload rfl rfl
theorem s335_2669 : WP 335 0 2669 L (vI x :: S) h Q ↔ zif (x = 0) (WP 335 0 2672 L S h Q) (WP 335 0 2691 L S h Q) := wp_bN zc_eq rfl rfl rfl
theorem s335_2672 : WP 335 0 2672 [a0, a1, a2, vA r, a4, a5, a6, a7] S h Q ↔ WP 335 0 2673 [a0, a1, a2, vA r, a4, a5, a6, a7] (vA r :: S) h Q := wp_aload rfl rfl
theorem s335_2673 : WP 335 0 2673 L S h Q ↔ WP 335 0 2674 L (vI 0 :: S) h Q := wp_pl rfl rfl rfl
theorem s335_2674 : WP 335 0 2674 L (vI x :: vA (some a) :: S) h Q ↔ (((hk h a).1 = 4 ∧ 0 ≤ x ∧ x < ((hk h a).2 : Int)) ∧ WP 335 0 2675 L (hm h a x.toNat :: S) h Q) := wp_if rfl rfl rfl
theorem s335_2675 : WP 335 0 2675 [a0, a1, a2, a3, a4, a5, vI x, a7] S h Q ↔ WP 335 0 2677 [a0, a1, a2, a3, a4, a5, vI x, a7] (vI x :: S) h Q := wp_iload rfl rfl
theorem s335_2677 : WP 335 0 2677 L (vI x :: S) h Q ↔ zif (x = 0) (WP 335 0 2684 L S h Q) (WP 335 0 2680 L S h Q) := wp_bE zc_eq rfl rfl rfl
theorem s335_2680 : WP 335 0 2680 L S h Q ↔ WP 335 0 2681 L (vL 1 :: S) h Q := wp_pl rfl rfl rfl
theorem s335_2681 : WP 335 0 2681 L S h Q ↔ WP 335 0 2685 L S h Q := wp_pl rfl rfl rfl
theorem s335_2684 : WP 335 0 2684 L S h Q ↔ WP 335 0 2685 L (vL 0 :: S) h Q := wp_pl rfl rfl rfl
theorem s335_2685 : WP 335 0 2685 L (vL y :: vL x :: S) h Q ↔ WP 335 0 2686 L (vI (zlc x y) :: S) h Q := wp_pl rfl rfl rfl
theorem s335_2686 : WP 335 0 2686 L (vI x :: S) h Q ↔ zif (x = 0) (WP 335 0 2691 L S h Q) (WP 335 0 2689 L S h Q) := wp_bE zc_eq rfl rfl rfl
theorem s335_2689 : WP 335 0 2689 L S h Q ↔ WP 335 0 2690 L (vI 0 :: S) h Q := wp_pl rfl rfl rfl
theorem s335_2690 : WP 335 0 2690 L [vI x] h Q ↔ ((x = 0 ∨ x = 1) ∧ Q (.inl (some (vI x))) h) := wp_iret rfl rfl
theorem s335_2691 : WP 335 0 2691 L S h Q ↔ WP 335 0 2799 L S h Q := wp_pl rfl rfl rfl
theorem s335_2694 : WP 335 0 2694 [a0, vA r, a2, a3, a4, a5, a6, a7] S h Q ↔ WP 335 0 2695 [a0, vA r, a2, a3, a4, a5, a6, a7] (vA r :: S) h Q := wp_aload rfl rfl
theorem s335_2695 : WP 335 0 2695 [vA r, a1, a2, a3, a4, a5, a6, a7] S h Q ↔ WP 335 0 2696 [vA r, a1, a2, a3, a4, a5, a6, a7] (vA r :: S) h Q := wp_aload rfl rfl
theorem s335_2696 : WP 335 0 2696 [a0, a1, a2, a3, vI x, a5, a6, a7] S h Q ↔ WP 335 0 2698 [a0, a1, a2, a3, vI x, a5, a6, a7] (vI x :: S) h Q := wp_iload rfl rfl
theorem s335_2698 : WP 335 0 2698 L S h Q ↔ WP 335 0 2699 L (vI 1 :: S) h Q := wp_pl rfl rfl rfl
theorem s335_2699 : WP 335 0 2699 L (vI y :: vI x :: S) h Q ↔ WP 335 0 2700 L (vI (wr (x + y)) :: S) h Q := wp_pl rfl rfl rfl
theorem s335_2700 : WP 335 0 2700 L (vI x :: vA (some a) :: S) h Q ↔ (((hk h a).1 = 1 ∧ 0 ≤ x ∧ x < ((hk h a).2 : Int)) ∧ WP 335 0 2701 L (hm h a x.toNat :: S) h Q) := wp_if rfl rfl rfl
theorem s335_2701 : WP 335 0 2701 [vA r, a1, a2, a3, a4, a5, a6, a7] S h Q ↔ WP 335 0 2702 [vA r, a1, a2, a3, a4, a5, a6, a7] (vA r :: S) h Q := wp_aload rfl rfl
theorem s335_2702 : WP 335 0 2702 [a0, a1, a2, a3, vI x, a5, a6, a7] S h Q ↔ WP 335 0 2704 [a0, a1, a2, a3, vI x, a5, a6, a7] (vI x :: S) h Q := wp_iload rfl rfl
theorem s335_2704 : WP 335 0 2704 L S h Q ↔ WP 335 0 2705 L (vI 2 :: S) h Q := wp_pl rfl rfl rfl
theorem s335_2705 : WP 335 0 2705 L (vI y :: vI x :: S) h Q ↔ WP 335 0 2706 L (vI (wr (x + y)) :: S) h Q := wp_pl rfl rfl rfl
theorem s335_2706 : WP 335 0 2706 L (vI x :: vA (some a) :: S) h Q ↔ (((hk h a).1 = 1 ∧ 0 ≤ x ∧ x < ((hk h a).2 : Int)) ∧ WP 335 0 2707 L (hm h a x.toNat :: S) h Q) := wp_if rfl rfl rfl
theorem s335_2707 : WP 335 0 2707 [vA r, a1, a2, a3, a4, a5, a6, a7] S h Q ↔ WP 335 0 2708 [vA r, a1, a2, a3, a4, a5, a6, a7] (vA r :: S) h Q := wp_aload rfl rfl
theorem s335_2708 : WP 335 0 2708 [a0, a1, a2, a3, vI x, a5, a6, a7] S h Q ↔ WP 335 0 2710 [a0, a1, a2, a3, vI x, a5, a6, a7] (vI x :: S) h Q := wp_iload rfl rfl
theorem s335_2710 : WP 335 0 2710 L S h Q ↔ WP 335 0 2711 L (vI 3 :: S) h Q := wp_pl rfl rfl rfl
theorem s335_2711 : WP 335 0 2711 L (vI y :: vI x :: S) h Q ↔ WP 335 0 2712 L (vI (wr (x + y)) :: S) h Q := wp_pl rfl rfl rfl
theorem s335_2712 : WP 335 0 2712 L (vI x :: vA (some a) :: S) h Q ↔ (((hk h a).1 = 1 ∧ 0 ≤ x ∧ x < ((hk h a).2 : Int)) ∧ WP 335 0 2713 L (hm h a x.toNat :: S) h Q) := wp_if rfl rfl rfl
theorem s335_2713 : WP 335 0 2713 [a0, a1, a2, vA r, a4, a5, a6, a7] S h Q ↔ WP 335 0 2714 [a0, a1, a2, vA r, a4, a5, a6, a7] (vA r :: S) h Q := wp_aload rfl rfl
theorem s335_2714 : WP 335 0 2714 L (vA r4 :: vI x3 :: vI x2 :: vI x1 :: vA r0 :: S) h Q ↔ (zw S ≤ 8 ∧ WP 368 0 0 [vA r0, vI x1, vI x2, vI x3, vA r4, vJ] [] h (zret 335 0 2714 2717 L S Q)) := wp_S rfl rfl (zcan_of rfl rfl) rfl rfl rfl
theorem s335_2717 : WP 335 0 2717 [a0, a1, a2, a3, a4, a5, a6, a7] (vI x :: S) h Q ↔ WP 335 0 2719 [a0, a1, a2, a3, a4, vI x, a6, a7] S h Q := wp_istore rfl rfl rfl
theorem s335_2719 : WP 335 0 2719 [a0, a1, vA r, a3, a4, a5, a6, a7] S h Q ↔ WP 335 0 2720 [a0, a1, vA r, a3, a4, a5, a6, a7] (vA r :: S) h Q := wp_aload rfl rfl
theorem s335_2720 : WP 335 0 2720 [vA r, a1, a2, a3, a4, a5, a6, a7] S h Q ↔ WP 335 0 2721 [vA r, a1, a2, a3, a4, a5, a6, a7] (vA r :: S) h Q := wp_aload rfl rfl
theorem s335_2721 : WP 335 0 2721 [a0, a1, a2, a3, vI x, a5, a6, a7] S h Q ↔ WP 335 0 2723 [a0, a1, a2, a3, vI x, a5, a6, a7] (vI x :: S) h Q := wp_iload rfl rfl
theorem s335_2723 : WP 335 0 2723 L S h Q ↔ WP 335 0 2724 L (vI 1 :: S) h Q := wp_pl rfl rfl rfl
theorem s335_2724 : WP 335 0 2724 L (vI y :: vI x :: S) h Q ↔ WP 335 0 2725 L (vI (wr (x + y)) :: S) h Q := wp_pl rfl rfl rfl
theorem s335_2725 : WP 335 0 2725 L (vI x :: vA (some a) :: S) h Q ↔ (((hk h a).1 = 1 ∧ 0 ≤ x ∧ x < ((hk h a).2 : Int)) ∧ WP 335 0 2726 L (hm h a x.toNat :: S) h Q) := wp_if rfl rfl rfl
theorem s335_2726 : WP 335 0 2726 [vA r, a1, a2, a3, a4, a5, a6, a7] S h Q ↔ WP 335 0 2727 [vA r, a1, a2, a3, a4, a5, a6, a7] (vA r :: S) h Q := wp_aload rfl rfl
theorem s335_2727 : WP 335 0 2727 [a0, a1, a2, a3, vI x, a5, a6, a7] S h Q ↔ WP 335 0 2729 [a0, a1, a2, a3, vI x, a5, a6, a7] (vI x :: S) h Q := wp_iload rfl rfl
theorem s335_2729 : WP 335 0 2729 L S h Q ↔ WP 335 0 2730 L (vI 2 :: S) h Q := wp_pl rfl rfl rfl
theorem s335_2730 : WP 335 0 2730 L (vI y :: vI x :: S) h Q ↔ WP 335 0 2731 L (vI (wr (x + y)) :: S) h Q := wp_pl rfl rfl rfl
theorem s335_2731 : WP 335 0 2731 L (vI x :: vA (some a) :: S) h Q ↔ (((hk h a).1 = 1 ∧ 0 ≤ x ∧ x < ((hk h a).2 : Int)) ∧ WP 335 0 2732 L (hm h a x.toNat :: S) h Q) := wp_if rfl rfl rfl
theorem s335_2732 : WP 335 0 2732 [vA r, a1, a2, a3, a4, a5, a6, a7] S h Q ↔ WP 335 0 2733 [vA r, a1, a2, a3, a4, a5, a6, a7] (vA r :: S) h Q := wp_aload rfl rfl
theorem s335_2733 : WP 335 0 2733 [a0, a1, a2, a3, vI x, a5, a6, a7] S h Q ↔ WP 335 0 2735 [a0, a1, a2, a3, vI x, a5, a6, a7] (vI x :: S) h Q := wp_iload rfl rfl
theorem s335_2735 : WP 335 0 2735 L S h Q ↔ WP 335 0 2736 L (vI 3 :: S) h Q := wp_pl rfl rfl rfl
theorem s335_2736 : WP 335 0 2736 L (vI y :: vI x :: S) h Q ↔ WP 335 0 2737 L (vI (wr (x + y)) :: S) h Q := wp_pl rfl rfl rfl
theorem s335_2737 : WP 335 0 2737 L (vI x :: vA (some a) :: S) h Q ↔ (((hk h a).1 = 1 ∧ 0 ≤ x ∧ x < ((hk h a).2 : Int)) ∧ WP 335 0 2738 L (hm h a x.toNat :: S) h Q) := wp_if rfl rfl rfl
theorem s335_2738 : WP 335 0 2738 L (vI x2 :: vI x1 :: vI x0 :: vA (some a) :: S) h Q ↔ ((hk h a).1 = 110 ∧ (zw S ≤ 8 ∧ WP 252 0 0 [vA (some a), vI x0, vI x1, vI x2, vJ, vJ] [] h (zret 335 0 2738 2741 L S Q))) := wp_V1 (c := 110) rfl rfl (fun _ => rfl) rfl rfl (zcan_of rfl rfl) rfl rfl rfl
theorem s335_2741 : WP 335 0 2741 [a0, a1, a2, a3, a4, a5, a6, a7] (vI x :: S) h Q ↔ WP 335 0 2743 [a0, a1, a2, a3, a4, a5, vI x, a7] S h Q := wp_istore rfl rfl rfl
theorem s335_2743 : WP 335 0 2743 [a0, a1, vA r, a3, a4, a5, a6, a7] S h Q ↔ WP 335 0 2744 [a0, a1, vA r, a3, a4, a5, a6, a7] (vA r :: S) h Q := wp_aload rfl rfl
theorem s335_2744 : WP 335 0 2744 L (vA (some a) :: S) h Q ↔ ((hk h a).1 = 110 ∧ (zw S ≤ 8 ∧ WP 247 0 0 [vA (some a)] [] h (zret 335 0 2744 2747 L S Q))) := wp_V1 (c := 110) rfl rfl (fun _ => rfl) rfl rfl (zcan_of rfl rfl) rfl rfl rfl
theorem s335_2747 : WP 335 0 2747 [a0, a1, a2, a3, a4, vI x, a6, a7] S h Q ↔ WP 335 0 2749 [a0, a1, a2, a3, a4, vI x, a6, a7] (vI x :: S) h Q := wp_iload rfl rfl
theorem s335_2749 : WP 335 0 2749 L (vI y :: vI x :: S) h Q ↔ zif (x = y) (WP 335 0 2754 L S h Q) (WP 335 0 2752 L S h Q) := wp_bE zc_eq rfl rfl rfl
theorem s335_2752 : WP 335 0 2752 L S h Q ↔ WP 335 0 2753 L (vI 0 :: S) h Q := wp_pl rfl rfl rfl
theorem s335_2753 : WP 335 0 2753 L [vI x] h Q ↔ ((x = 0 ∨ x = 1) ∧ Q (.inl (some (vI x))) h) := wp_iret rfl rfl
theorem s335_2754 : WP 335 0 2754 [a0, a1, a2, a3, a4, vI x, a6, a7] S h Q ↔ WP 335 0 2756 [a0, a1, a2, a3, a4, vI x, a6, a7] (vI x :: S) h Q := wp_iload rfl rfl
theorem s335_2756 : WP 335 0 2756 L (vI x :: S) h Q ↔ zif (x = 0) (WP 335 0 2759 L S h Q) (WP 335 0 2771 L S h Q) := wp_bN zc_eq rfl rfl rfl
theorem s335_2759 : WP 335 0 2759 [a0, a1, a2, vA r, a4, a5, a6, a7] S h Q ↔ WP 335 0 2760 [a0, a1, a2, vA r, a4, a5, a6, a7] (vA r :: S) h Q := wp_aload rfl rfl
theorem s335_2760 : WP 335 0 2760 L S h Q ↔ WP 335 0 2761 L (vI 0 :: S) h Q := wp_pl rfl rfl rfl
theorem s335_2761 : WP 335 0 2761 L (vI x :: vA (some a) :: S) h Q ↔ (((hk h a).1 = 4 ∧ 0 ≤ x ∧ x < ((hk h a).2 : Int)) ∧ WP 335 0 2762 L (hm h a x.toNat :: S) h Q) := wp_if rfl rfl rfl
theorem s335_2762 : WP 335 0 2762 [a0, a1, a2, a3, a4, a5, vI x, a7] S h Q ↔ WP 335 0 2764 [a0, a1, a2, a3, a4, a5, vI x, a7] (vI x :: S) h Q := wp_iload rfl rfl
theorem s335_2764 : WP 335 0 2764 L (vI x :: S) h Q ↔ WP 335 0 2765 L (vL x :: S) h Q := wp_pl rfl rfl rfl
theorem s335_2765 : WP 335 0 2765 L (vL y :: vL x :: S) h Q ↔ WP 335 0 2766 L (vI (zlc x y) :: S) h Q := wp_pl rfl rfl rfl
theorem s335_2766 : WP 335 0 2766 L (vI x :: S) h Q ↔ zif (x = 0) (WP 335 0 2771 L S h Q) (WP 335 0 2769 L S h Q) := wp_bE zc_eq rfl rfl rfl
theorem s335_2769 : WP 335 0 2769 L S h Q ↔ WP 335 0 2770 L (vI 0 :: S) h Q := wp_pl rfl rfl rfl
theorem s335_2770 : WP 335 0 2770 L [vI x] h Q ↔ ((x = 0 ∨ x = 1) ∧ Q (.inl (some (vI x))) h) := wp_iret rfl rfl
theorem s335_2771 : WP 335 0 2771 L S h Q ↔ WP 335 0 2799 L S h Q := wp_pl rfl rfl rfl
theorem s335_2774 : WP 335 0 2774 [a0, vA r, a2, a3, a4, a5, a6, a7] S h Q ↔ WP 335 0 2775 [a0, vA r, a2, a3, a4, a5, a6, a7] (vA r :: S) h Q := wp_aload rfl rfl
theorem s335_2775 : WP 335 0 2775 [vA r, a1, a2, a3, a4, a5, a6, a7] S h Q ↔ WP 335 0 2776 [vA r, a1, a2, a3, a4, a5, a6, a7] (vA r :: S) h Q := wp_aload rfl rfl
theorem s335_2776 : WP 335 0 2776 [a0, a1, a2, a3, vI x, a5, a6, a7] S h Q ↔ WP 335 0 2778 [a0, a1, a2, a3, vI x, a5, a6, a7] (vI x :: S) h Q := wp_iload rfl rfl
theorem s335_2778 : WP 335 0 2778 L S h Q ↔ WP 335 0 2779 L (vI 1 :: S) h Q := wp_pl rfl rfl rfl
theorem s335_2779 : WP 335 0 2779 L (vI y :: vI x :: S) h Q ↔ WP 335 0 2780 L (vI (wr (x + y)) :: S) h Q := wp_pl rfl rfl rfl
theorem s335_2780 : WP 335 0 2780 L (vI x :: vA (some a) :: S) h Q ↔ (((hk h a).1 = 1 ∧ 0 ≤ x ∧ x < ((hk h a).2 : Int)) ∧ WP 335 0 2781 L (hm h a x.toNat :: S) h Q) := wp_if rfl rfl rfl
theorem s335_2781 : WP 335 0 2781 L (vI x0 :: vA (some a) :: S) h Q ↔ ((hk h a).1 = 100 ∧ (zw S ≤ 8 ∧ WP 13 0 0 [vA (some a), vI x0, vJ] [] h (zret 335 0 2781 2784 L S Q))) := wp_V1 (c := 100) rfl rfl (fun _ => rfl) rfl rfl (zcan_of rfl rfl) rfl rfl rfl
theorem s335_2784 : WP 335 0 2784 [a0, a1, vA r, a3, a4, a5, a6, a7] S h Q ↔ WP 335 0 2785 [a0, a1, vA r, a3, a4, a5, a6, a7] (vA r :: S) h Q := wp_aload rfl rfl
theorem s335_2785 : WP 335 0 2785 [vA r, a1, a2, a3, a4, a5, a6, a7] S h Q ↔ WP 335 0 2786 [vA r, a1, a2, a3, a4, a5, a6, a7] (vA r :: S) h Q := wp_aload rfl rfl
theorem s335_2786 : WP 335 0 2786 [a0, a1, a2, a3, vI x, a5, a6, a7] S h Q ↔ WP 335 0 2788 [a0, a1, a2, a3, vI x, a5, a6, a7] (vI x :: S) h Q := wp_iload rfl rfl
theorem s335_2788 : WP 335 0 2788 L S h Q ↔ WP 335 0 2789 L (vI 1 :: S) h Q := wp_pl rfl rfl rfl
theorem s335_2789 : WP 335 0 2789 L (vI y :: vI x :: S) h Q ↔ WP 335 0 2790 L (vI (wr (x + y)) :: S) h Q := wp_pl rfl rfl rfl
theorem s335_2790 : WP 335 0 2790 L (vI x :: vA (some a) :: S) h Q ↔ (((hk h a).1 = 1 ∧ 0 ≤ x ∧ x < ((hk h a).2 : Int)) ∧ WP 335 0 2791 L (hm h a x.toNat :: S) h Q) := wp_if rfl rfl rfl
theorem s335_2791 : WP 335 0 2791 L (vI x0 :: vA (some a) :: S) h Q ↔ ((hk h a).1 = 110 ∧ (zw S ≤ 8 ∧ WP 151 0 0 [vA (some a), vI x0, vJ, vJ] [] h (zret 335 0 2791 2794 L S Q))) := wp_V1 (c := 110) rfl rfl (fun _ => rfl) rfl rfl (zcan_of rfl rfl) rfl rfl rfl
theorem s335_2794 : WP 335 0 2794 L (vI y :: vI x :: S) h Q ↔ zif (x = y) (WP 335 0 2799 L S h Q) (WP 335 0 2797 L S h Q) := wp_bE zc_eq rfl rfl rfl
theorem s335_2797 : WP 335 0 2797 L S h Q ↔ WP 335 0 2798 L (vI 0 :: S) h Q := wp_pl rfl rfl rfl
theorem s335_2798 : WP 335 0 2798 L [vI x] h Q ↔ ((x = 0 ∨ x = 1) ∧ Q (.inl (some (vI x))) h) := wp_iret rfl rfl
theorem s335_2799 : WP 335 0 2799 [a0, a1, a2, a3, vI x, a5, a6, a7] S h Q ↔ WP 335 0 2802 [a0, a1, a2, a3, vI (wr (x + 6)), a5, a6, a7] S h Q := wp_iinc rfl rfl rfl
theorem s335_2802 : WP 335 0 2802 L S h Q ↔ WP 335 0 23 L S h Q := wp_pl rfl rfl rfl
theorem s335_2805 : WP 335 0 2805 L S h Q ↔ WP 335 0 2806 L (vI 1 :: S) h Q := wp_pl rfl rfl rfl
theorem s335_2806 : WP 335 0 2806 L [vI x] h Q ↔ ((x = 0 ∨ x = 1) ∧ Q (.inl (some (vI x))) h) := wp_iret rfl rfl
/-! RepeatFreeLaw.avoid(LRepeatFree;IZ[J)I -/
theorem s336_0 : WP 336 0 0 [a0, a1, a2, vA r, a4] S h Q ↔ WP 336 0 1 [a0, a1, a2, vA r, a4] (vA r :: S) h Q := wp_aload rfl rfl
theorem s336_1 : WP 336 0 1 L S h Q ↔ WP 336 0 2 L (vI 0 :: S) h Q := wp_pl rfl rfl rfl
theorem s336_2 : WP 336 0 2 [vA r, a1, a2, a3, a4] S h Q ↔ WP 336 0 3 [vA r, a1, a2, a3, a4] (vA r :: S) h Q := wp_aload rfl rfl
theorem s336_3 : WP 336 0 3 [a0, vI x, a2, a3, a4] S h Q ↔ WP 336 0 4 [a0, vI x, a2, a3, a4] (vI x :: S) h Q := wp_iload rfl rfl
theorem s336_4 : WP 336 0 4 [a0, a1, vI x, a3, a4] S h Q ↔ WP 336 0 5 [a0, a1, vI x, a3, a4] (vI x :: S) h Q := wp_iload rfl rfl
theorem s336_5 : WP 336 0 5 L (vI x1 :: vI x0 :: vA (some a) :: S) h Q ↔ ((hk h a).1 = 100 ∧ (zw S ≤ 8 ∧ WP 3 0 0 [vA (some a), vI x0, vI x1, vJ, vJ] [] h (zret 336 0 5 8 L S Q))) := wp_V1 (c := 100) rfl rfl (fun _ => rfl) rfl rfl (zcan_of rfl rfl) rfl rfl rfl
theorem s336_8 : WP 336 0 8 L (vI x :: S) h Q ↔ zif (x = 0) (WP 336 0 15 L S h Q) (WP 336 0 11 L S h Q) := wp_bE zc_eq rfl rfl rfl
theorem s336_11 : WP 336 0 11 L S h Q ↔ WP 336 0 12 L (vL 1 :: S) h Q := wp_pl rfl rfl rfl
theorem s336_12 : WP 336 0 12 L S h Q ↔ WP 336 0 16 L S h Q := wp_pl rfl rfl rfl
theorem s336_15 : WP 336 0 15 L S h Q ↔ WP 336 0 16 L (vL 0 :: S) h Q := wp_pl rfl rfl rfl
theorem s336_16 : WP 336 0 16 L (vL y :: vI x :: vA (some a) :: S) h Q ↔ (((hk h a).1 = 4 ∧ (0 ≤ x ∧ x < ((hk h a).2 : Int)) ∧ zNC ≤ a) ∧ WP 336 0 17 L S (hput h a x.toNat (vL y)) Q) := wp_if rfl rfl rfl
theorem s336_17 : WP 336 0 17 L S h Q ↔ WP 336 0 24 L S h Q := wp_pl rfl rfl rfl
theorem s336_20 : WP 336 0 20 [a0, a1, a2, a3, a4] (vA r :: S) h Q ↔ WP 336 0 22 [a0, a1, a2, a3, vA r] S h Q := wp_astore rfl rfl rfl
theorem s336_22 : WP 336 0 22 L S h Q ↔ WP 336 0 23 L (vI 1 :: S) h Q := wp_pl rfl rfl rfl
theorem s336_23 : WP 336 0 23 L [vI x] h Q ↔ Q (.inl (some (vI x))) h := wp_iret0 rfl rfl
theorem s336_24 : WP 336 0 24 L S h Q ↔ WP 336 0 25 L (vI 0 :: S) h Q := wp_pl rfl rfl rfl
theorem s336_25 : WP 336 0 25 L [vI x] h Q ↔ Q (.inl (some (vI x))) h := wp_iret0 rfl rfl
/-! RepeatFreeLaw.breaks(LRepeatFree;II[J)I -/
theorem s337_0 : WP 337 0 0 [a0, a1, a2, vA r, a4] S h Q ↔ WP 337 0 1 [a0, a1, a2, vA r, a4] (vA r :: S) h Q := wp_aload rfl rfl
theorem s337_1 : WP 337 0 1 L S h Q ↔ WP 337 0 2 L (vI 0 :: S) h Q := wp_pl rfl rfl rfl
theorem s337_2 : WP 337 0 2 [vA r, a1, a2, a3, a4] S h Q ↔ WP 337 0 3 [vA r, a1, a2, a3, a4] (vA r :: S) h Q := wp_aload rfl rfl
theorem s337_3 : WP 337 0 3 [a0, vI x, a2, a3, a4] S h Q ↔ WP 337 0 4 [a0, vI x, a2, a3, a4] (vI x :: S) h Q := wp_iload rfl rfl
theorem s337_4 : WP 337 0 4 [a0, a1, vI x, a3, a4] S h Q ↔ WP 337 0 5 [a0, a1, vI x, a3, a4] (vI x :: S) h Q := wp_iload rfl rfl
theorem s337_5 : WP 337 0 5 L (vI x1 :: vI x0 :: vA (some a) :: S) h Q ↔ ((hk h a).1 = 100 ∧ (zw S ≤ 8 ∧ WP 7 0 0 [vA (some a), vI x0, vI x1, vJ] [] h (zret 337 0 5 8 L S Q))) := wp_V1 (c := 100) rfl rfl (fun _ => rfl) rfl rfl (zcan_of rfl rfl) rfl rfl rfl
theorem s337_8 : WP 337 0 8 L (vI x :: S) h Q ↔ WP 337 0 9 L (vL x :: S) h Q := wp_pl rfl rfl rfl
theorem s337_9 : WP 337 0 9 L (vL y :: vI x :: vA (some a) :: S) h Q ↔ (((hk h a).1 = 4 ∧ (0 ≤ x ∧ x < ((hk h a).2 : Int)) ∧ zNC ≤ a) ∧ WP 337 0 10 L S (hput h a x.toNat (vL y)) Q) := wp_if rfl rfl rfl
theorem s337_10 : WP 337 0 10 L S h Q ↔ WP 337 0 21 L S h Q := wp_pl rfl rfl rfl
theorem s337_13 : WP 337 0 13 [a0, a1, a2, a3, a4] (vA r :: S) h Q ↔ WP 337 0 15 [a0, a1, a2, a3, vA r] S h Q := wp_astore rfl rfl rfl
theorem s337_15 : WP 337 0 15 L S h Q ↔ WP 337 0 16 L (vI 1 :: S) h Q := wp_pl rfl rfl rfl
theorem s337_16 : WP 337 0 16 L [vI x] h Q ↔ Q (.inl (some (vI x))) h := wp_iret0 rfl rfl
theorem s337_17 : WP 337 0 17 [a0, a1, a2, a3, a4] (vA r :: S) h Q ↔ WP 337 0 19 [a0, a1, a2, a3, vA r] S h Q := wp_astore rfl rfl rfl
theorem s337_19 : WP 337 0 19 L S h Q ↔ WP 337 0 20 L (vI 2 :: S) h Q := wp_pl rfl rfl rfl
theorem s337_20 : WP 337 0 20 L [vI x] h Q ↔ Q (.inl (some (vI x))) h := wp_iret0 rfl rfl
theorem s337_21 : WP 337 0 21 L S h Q ↔ WP 337 0 22 L (vI 0 :: S) h Q := wp_pl rfl rfl rfl
theorem s337_22 : WP 337 0 22 L [vI x] h Q ↔ Q (.inl (some (vI x))) h := wp_iret0 rfl rfl
/-! RepeatFreeLaw.cannot(LRepeatFree;I[J)I -/
theorem s338_0 : WP 338 0 0 [a0, a1, vA r, a3] S h Q ↔ WP 338 0 1 [a0, a1, vA r, a3] (vA r :: S) h Q := wp_aload rfl rfl
theorem s338_1 : WP 338 0 1 L S h Q ↔ WP 338 0 2 L (vI 0 :: S) h Q := wp_pl rfl rfl rfl
theorem s338_2 : WP 338 0 2 [vA r, a1, a2, a3] S h Q ↔ WP 338 0 3 [vA r, a1, a2, a3] (vA r :: S) h Q := wp_aload rfl rfl
theorem s338_3 : WP 338 0 3 [a0, vI x, a2, a3] S h Q ↔ WP 338 0 4 [a0, vI x, a2, a3] (vI x :: S) h Q := wp_iload rfl rfl
theorem s338_4 : WP 338 0 4 L (vI x0 :: vA (some a) :: S) h Q ↔ ((hk h a).1 = 100 ∧ (zw S ≤ 8 ∧ WP 10 0 0 [vA (some a), vI x0] [] h (zret 338 0 4 7 L S Q))) := wp_V1 (c := 100) rfl rfl (fun _ => rfl) rfl rfl (zcan_of rfl rfl) rfl rfl rfl
theorem s338_7 : WP 338 0 7 L (vI x :: S) h Q ↔ zif (x = 0) (WP 338 0 14 L S h Q) (WP 338 0 10 L S h Q) := wp_bE zc_eq rfl rfl rfl
theorem s338_10 : WP 338 0 10 L S h Q ↔ WP 338 0 11 L (vL 1 :: S) h Q := wp_pl rfl rfl rfl
theorem s338_11 : WP 338 0 11 L S h Q ↔ WP 338 0 15 L S h Q := wp_pl rfl rfl rfl
theorem s338_14 : WP 338 0 14 L S h Q ↔ WP 338 0 15 L (vL 0 :: S) h Q := wp_pl rfl rfl rfl
theorem s338_15 : WP 338 0 15 L (vL y :: vI x :: vA (some a) :: S) h Q ↔ (((hk h a).1 = 4 ∧ (0 ≤ x ∧ x < ((hk h a).2 : Int)) ∧ zNC ≤ a) ∧ WP 338 0 16 L S (hput h a x.toNat (vL y)) Q) := wp_if rfl rfl rfl
theorem s338_16 : WP 338 0 16 L S h Q ↔ WP 338 0 22 L S h Q := wp_pl rfl rfl rfl
theorem s338_19 : WP 338 0 19 [a0, a1, a2, a3] (vA r :: S) h Q ↔ WP 338 0 20 [a0, a1, a2, vA r] S h Q := wp_astore rfl rfl rfl
theorem s338_20 : WP 338 0 20 L S h Q ↔ WP 338 0 21 L (vI 1 :: S) h Q := wp_pl rfl rfl rfl
theorem s338_21 : WP 338 0 21 L [vI x] h Q ↔ Q (.inl (some (vI x))) h := wp_iret0 rfl rfl
theorem s338_22 : WP 338 0 22 L S h Q ↔ WP 338 0 23 L (vI 0 :: S) h Q := wp_pl rfl rfl rfl
theorem s338_23 : WP 338 0 23 L [vI x] h Q ↔ Q (.inl (some (vI x))) h := wp_iret0 rfl rfl
/-! RepeatFreeLaw.code(LRepeatFree;I[J)I -/
theorem s339_0 : WP 339 0 0 [a0, a1, vA r, a3] S h Q ↔ WP 339 0 1 [a0, a1, vA r, a3] (vA r :: S) h Q := wp_aload rfl rfl
theorem s339_1 : WP 339 0 1 L S h Q ↔ WP 339 0 2 L (vI 0 :: S) h Q := wp_pl rfl rfl rfl
theorem s339_2 : WP 339 0 2 [vA r, a1, a2, a3] S h Q ↔ WP 339 0 3 [vA r, a1, a2, a3] (vA r :: S) h Q := wp_aload rfl rfl
theorem s339_3 : WP 339 0 3 [a0, vI x, a2, a3] S h Q ↔ WP 339 0 4 [a0, vI x, a2, a3] (vI x :: S) h Q := wp_iload rfl rfl
theorem s339_4 : WP 339 0 4 L (vI x0 :: vA (some a) :: S) h Q ↔ ((hk h a).1 = 100 ∧ (zw S ≤ 8 ∧ WP 12 0 0 [vA (some a), vI x0, vJ, vJ, vJ, vJ, vJ, vJ] [] h (zret 339 0 4 7 L S Q))) := wp_V1 (c := 100) rfl rfl (fun _ => rfl) rfl rfl (zcan_of rfl rfl) rfl rfl rfl
theorem s339_7 : WP 339 0 7 L (vI x :: S) h Q ↔ zif (x = 0) (WP 339 0 14 L S h Q) (WP 339 0 10 L S h Q) := wp_bE zc_eq rfl rfl rfl
theorem s339_10 : WP 339 0 10 L S h Q ↔ WP 339 0 11 L (vL 1 :: S) h Q := wp_pl rfl rfl rfl
theorem s339_11 : WP 339 0 11 L S h Q ↔ WP 339 0 15 L S h Q := wp_pl rfl rfl rfl
theorem s339_14 : WP 339 0 14 L S h Q ↔ WP 339 0 15 L (vL 0 :: S) h Q := wp_pl rfl rfl rfl
theorem s339_15 : WP 339 0 15 L (vL y :: vI x :: vA (some a) :: S) h Q ↔ (((hk h a).1 = 4 ∧ (0 ≤ x ∧ x < ((hk h a).2 : Int)) ∧ zNC ≤ a) ∧ WP 339 0 16 L S (hput h a x.toNat (vL y)) Q) := wp_if rfl rfl rfl
theorem s339_16 : WP 339 0 16 L S h Q ↔ WP 339 0 22 L S h Q := wp_pl rfl rfl rfl
theorem s339_19 : WP 339 0 19 [a0, a1, a2, a3] (vA r :: S) h Q ↔ WP 339 0 20 [a0, a1, a2, vA r] S h Q := wp_astore rfl rfl rfl
theorem s339_20 : WP 339 0 20 L S h Q ↔ WP 339 0 21 L (vI 1 :: S) h Q := wp_pl rfl rfl rfl
theorem s339_21 : WP 339 0 21 L [vI x] h Q ↔ Q (.inl (some (vI x))) h := wp_iret0 rfl rfl
theorem s339_22 : WP 339 0 22 L S h Q ↔ WP 339 0 23 L (vI 0 :: S) h Q := wp_pl rfl rfl rfl
theorem s339_23 : WP 339 0 23 L [vI x] h Q ↔ Q (.inl (some (vI x))) h := wp_iret0 rfl rfl
/-! RepeatFreeLaw.factors(LRepeatFree;I[J)I -/
theorem s340_0 : WP 340 0 0 [a0, a1, vA r, a3] S h Q ↔ WP 340 0 1 [a0, a1, vA r, a3] (vA r :: S) h Q := wp_aload rfl rfl
theorem s340_1 : WP 340 0 1 L S h Q ↔ WP 340 0 2 L (vI 0 :: S) h Q := wp_pl rfl rfl rfl
theorem s340_2 : WP 340 0 2 [vA r, a1, a2, a3] S h Q ↔ WP 340 0 3 [vA r, a1, a2, a3] (vA r :: S) h Q := wp_aload rfl rfl
theorem s340_3 : WP 340 0 3 [a0, vI x, a2, a3] S h Q ↔ WP 340 0 4 [a0, vI x, a2, a3] (vI x :: S) h Q := wp_iload rfl rfl
theorem s340_4 : WP 340 0 4 L (vI x0 :: vA (some a) :: S) h Q ↔ ((hk h a).1 = 100 ∧ (zw S ≤ 8 ∧ WP 18 0 0 [vA (some a), vI x0, vJ, vJ, vJ, vJ] [] h (zret 340 0 4 7 L S Q))) := wp_V1 (c := 100) rfl rfl (fun _ => rfl) rfl rfl (zcan_of rfl rfl) rfl rfl rfl
theorem s340_7 : WP 340 0 7 L (vI x :: S) h Q ↔ WP 340 0 8 L (vL x :: S) h Q := wp_pl rfl rfl rfl
theorem s340_8 : WP 340 0 8 L (vL y :: vI x :: vA (some a) :: S) h Q ↔ (((hk h a).1 = 4 ∧ (0 ≤ x ∧ x < ((hk h a).2 : Int)) ∧ zNC ≤ a) ∧ WP 340 0 9 L S (hput h a x.toNat (vL y)) Q) := wp_if rfl rfl rfl
theorem s340_9 : WP 340 0 9 L S h Q ↔ WP 340 0 15 L S h Q := wp_pl rfl rfl rfl
theorem s340_12 : WP 340 0 12 [a0, a1, a2, a3] (vA r :: S) h Q ↔ WP 340 0 13 [a0, a1, a2, vA r] S h Q := wp_astore rfl rfl rfl
theorem s340_13 : WP 340 0 13 L S h Q ↔ WP 340 0 14 L (vI 1 :: S) h Q := wp_pl rfl rfl rfl
theorem s340_14 : WP 340 0 14 L [vI x] h Q ↔ Q (.inl (some (vI x))) h := wp_iret0 rfl rfl
theorem s340_15 : WP 340 0 15 L S h Q ↔ WP 340 0 16 L (vI 0 :: S) h Q := wp_pl rfl rfl rfl
theorem s340_16 : WP 340 0 16 L [vI x] h Q ↔ Q (.inl (some (vI x))) h := wp_iret0 rfl rfl
/-! RepeatFreeLaw.fill(LRepeatFree;III[J)I -/
theorem s341_0 : WP 341 0 0 [a0, a1, a2, a3, vA r, a5] S h Q ↔ WP 341 0 2 [a0, a1, a2, a3, vA r, a5] (vA r :: S) h Q := wp_aload rfl rfl
theorem s341_2 : WP 341 0 2 L S h Q ↔ WP 341 0 3 L (vI 0 :: S) h Q := wp_pl rfl rfl rfl
theorem s341_3 : WP 341 0 3 [vA r, a1, a2, a3, a4, a5] S h Q ↔ WP 341 0 4 [vA r, a1, a2, a3, a4, a5] (vA r :: S) h Q := wp_aload rfl rfl
theorem s341_4 : WP 341 0 4 [a0, vI x, a2, a3, a4, a5] S h Q ↔ WP 341 0 5 [a0, vI x, a2, a3, a4, a5] (vI x :: S) h Q := wp_iload rfl rfl
theorem s341_5 : WP 341 0 5 [a0, a1, vI x, a3, a4, a5] S h Q ↔ WP 341 0 6 [a0, a1, vI x, a3, a4, a5] (vI x :: S) h Q := wp_iload rfl rfl
theorem s341_6 : WP 341 0 6 [a0, a1, a2, vI x, a4, a5] S h Q ↔ WP 341 0 7 [a0, a1, a2, vI x, a4, a5] (vI x :: S) h Q := wp_iload rfl rfl
theorem s341_7 : WP 341 0 7 L (vI x2 :: vI x1 :: vI x0 :: vA (some a) :: S) h Q ↔ ((hk h a).1 = 100 ∧ (zw S ≤ 8 ∧ WP 22 0 0 [vA (some a), vI x0, vI x1, vI x2, vJ, vJ, vJ, vJ, vJ] [] h (zret 341 0 7 10 L S Q))) := wp_V1 (c := 100) rfl rfl (fun _ => rfl) rfl rfl (zcan_of rfl rfl) rfl rfl rfl
theorem s341_10 : WP 341 0 10 L (vI x :: S) h Q ↔ WP 341 0 11 L (vL x :: S) h Q := wp_pl rfl rfl rfl
theorem s341_11 : WP 341 0 11 L (vL y :: vI x :: vA (some a) :: S) h Q ↔ (((hk h a).1 = 4 ∧ (0 ≤ x ∧ x < ((hk h a).2 : Int)) ∧ zNC ≤ a) ∧ WP 341 0 12 L S (hput h a x.toNat (vL y)) Q) := wp_if rfl rfl rfl
theorem s341_12 : WP 341 0 12 L S h Q ↔ WP 341 0 27 L S h Q := wp_pl rfl rfl rfl
theorem s341_15 : WP 341 0 15 [a0, a1, a2, a3, a4, a5] (vA r :: S) h Q ↔ WP 341 0 17 [a0, a1, a2, a3, a4, vA r] S h Q := wp_astore rfl rfl rfl
theorem s341_17 : WP 341 0 17 L S h Q ↔ WP 341 0 18 L (vI 1 :: S) h Q := wp_pl rfl rfl rfl
theorem s341_18 : WP 341 0 18 L [vI x] h Q ↔ Q (.inl (some (vI x))) h := wp_iret0 rfl rfl
theorem s341_19 : WP 341 0 19 [a0, a1, a2, a3, a4, a5] (vA r :: S) h Q ↔ WP 341 0 21 [a0, a1, a2, a3, a4, vA r] S h Q := wp_astore rfl rfl rfl
theorem s341_21 : WP 341 0 21 L S h Q ↔ WP 341 0 22 L (vI 2 :: S) h Q := wp_pl rfl rfl rfl
theorem s341_22 : WP 341 0 22 L [vI x] h Q ↔ Q (.inl (some (vI x))) h := wp_iret0 rfl rfl
theorem s341_23 : WP 341 0 23 [a0, a1, a2, a3, a4, a5] (vA r :: S) h Q ↔ WP 341 0 25 [a0, a1, a2, a3, a4, vA r] S h Q := wp_astore rfl rfl rfl
theorem s341_25 : WP 341 0 25 L S h Q ↔ WP 341 0 26 L (vI 3 :: S) h Q := wp_pl rfl rfl rfl
theorem s341_26 : WP 341 0 26 L [vI x] h Q ↔ Q (.inl (some (vI x))) h := wp_iret0 rfl rfl
theorem s341_27 : WP 341 0 27 L S h Q ↔ WP 341 0 28 L (vI 0 :: S) h Q := wp_pl rfl rfl rfl
theorem s341_28 : WP 341 0 28 L [vI x] h Q ↔ Q (.inl (some (vI x))) h := wp_iret0 rfl rfl
/-! RepeatFreeLaw.first(LRepeatFree;I[J)I -/
theorem s342_0 : WP 342 0 0 [a0, a1, vA r, a3] S h Q ↔ WP 342 0 1 [a0, a1, vA r, a3] (vA r :: S) h Q := wp_aload rfl rfl
theorem s342_1 : WP 342 0 1 L S h Q ↔ WP 342 0 2 L (vI 0 :: S) h Q := wp_pl rfl rfl rfl
theorem s342_2 : WP 342 0 2 [vA r, a1, a2, a3] S h Q ↔ WP 342 0 3 [vA r, a1, a2, a3] (vA r :: S) h Q := wp_aload rfl rfl
theorem s342_3 : WP 342 0 3 [a0, vI x, a2, a3] S h Q ↔ WP 342 0 4 [a0, vI x, a2, a3] (vI x :: S) h Q := wp_iload rfl rfl
theorem s342_4 : WP 342 0 4 L (vI x0 :: vA (some a) :: S) h Q ↔ ((hk h a).1 = 100 ∧ (zw S ≤ 8 ∧ WP 23 0 0 [vA (some a), vI x0, vJ] [] h (zret 342 0 4 7 L S Q))) := wp_V1 (c := 100) rfl rfl (fun _ => rfl) rfl rfl (zcan_of rfl rfl) rfl rfl rfl
theorem s342_7 : WP 342 0 7 L (vI x :: S) h Q ↔ WP 342 0 8 L (vL x :: S) h Q := wp_pl rfl rfl rfl
theorem s342_8 : WP 342 0 8 L (vL y :: vI x :: vA (some a) :: S) h Q ↔ (((hk h a).1 = 4 ∧ (0 ≤ x ∧ x < ((hk h a).2 : Int)) ∧ zNC ≤ a) ∧ WP 342 0 9 L S (hput h a x.toNat (vL y)) Q) := wp_if rfl rfl rfl
theorem s342_9 : WP 342 0 9 L S h Q ↔ WP 342 0 15 L S h Q := wp_pl rfl rfl rfl
theorem s342_12 : WP 342 0 12 [a0, a1, a2, a3] (vA r :: S) h Q ↔ WP 342 0 13 [a0, a1, a2, vA r] S h Q := wp_astore rfl rfl rfl
theorem s342_13 : WP 342 0 13 L S h Q ↔ WP 342 0 14 L (vI 1 :: S) h Q := wp_pl rfl rfl rfl
theorem s342_14 : WP 342 0 14 L [vI x] h Q ↔ Q (.inl (some (vI x))) h := wp_iret0 rfl rfl
theorem s342_15 : WP 342 0 15 L S h Q ↔ WP 342 0 16 L (vI 0 :: S) h Q := wp_pl rfl rfl rfl
theorem s342_16 : WP 342 0 16 L [vI x] h Q ↔ Q (.inl (some (vI x))) h := wp_iret0 rfl rfl
/-! RepeatFreeLaw.greatest(LRepeatFree;I[J)I -/
theorem s343_0 : WP 343 0 0 [a0, a1, vA r, a3] S h Q ↔ WP 343 0 1 [a0, a1, vA r, a3] (vA r :: S) h Q := wp_aload rfl rfl
theorem s343_1 : WP 343 0 1 L S h Q ↔ WP 343 0 2 L (vI 0 :: S) h Q := wp_pl rfl rfl rfl
theorem s343_2 : WP 343 0 2 [vA r, a1, a2, a3] S h Q ↔ WP 343 0 3 [vA r, a1, a2, a3] (vA r :: S) h Q := wp_aload rfl rfl
theorem s343_3 : WP 343 0 3 [a0, vI x, a2, a3] S h Q ↔ WP 343 0 4 [a0, vI x, a2, a3] (vI x :: S) h Q := wp_iload rfl rfl
theorem s343_4 : WP 343 0 4 L (vI x0 :: vA (some a) :: S) h Q ↔ ((hk h a).1 = 100 ∧ (zw S ≤ 8 ∧ WP 27 0 0 [vA (some a), vI x0, vJ, vJ, vJ, vJ, vJ, vJ, vJ] [] h (zret 343 0 4 7 L S Q))) := wp_V1 (c := 100) rfl rfl (fun _ => rfl) rfl rfl (zcan_of rfl rfl) rfl rfl rfl
theorem s343_7 : WP 343 0 7 L (vI x :: S) h Q ↔ WP 343 0 8 L (vL x :: S) h Q := wp_pl rfl rfl rfl
theorem s343_8 : WP 343 0 8 L (vL y :: vI x :: vA (some a) :: S) h Q ↔ (((hk h a).1 = 4 ∧ (0 ≤ x ∧ x < ((hk h a).2 : Int)) ∧ zNC ≤ a) ∧ WP 343 0 9 L S (hput h a x.toNat (vL y)) Q) := wp_if rfl rfl rfl
theorem s343_9 : WP 343 0 9 L S h Q ↔ WP 343 0 15 L S h Q := wp_pl rfl rfl rfl
theorem s343_12 : WP 343 0 12 [a0, a1, a2, a3] (vA r :: S) h Q ↔ WP 343 0 13 [a0, a1, a2, vA r] S h Q := wp_astore rfl rfl rfl
theorem s343_13 : WP 343 0 13 L S h Q ↔ WP 343 0 14 L (vI 1 :: S) h Q := wp_pl rfl rfl rfl
theorem s343_14 : WP 343 0 14 L [vI x] h Q ↔ Q (.inl (some (vI x))) h := wp_iret0 rfl rfl
theorem s343_15 : WP 343 0 15 L S h Q ↔ WP 343 0 16 L (vI 0 :: S) h Q := wp_pl rfl rfl rfl
theorem s343_16 : WP 343 0 16 L [vI x] h Q ↔ Q (.inl (some (vI x))) h := wp_iret0 rfl rfl
/-! RepeatFreeLaw.grows(LRepeatFree;I[J)I -/
theorem s344_0 : WP 344 0 0 [a0, a1, vA r, a3] S h Q ↔ WP 344 0 1 [a0, a1, vA r, a3] (vA r :: S) h Q := wp_aload rfl rfl
theorem s344_1 : WP 344 0 1 L S h Q ↔ WP 344 0 2 L (vI 0 :: S) h Q := wp_pl rfl rfl rfl
theorem s344_2 : WP 344 0 2 [vA r, a1, a2, a3] S h Q ↔ WP 344 0 3 [vA r, a1, a2, a3] (vA r :: S) h Q := wp_aload rfl rfl
theorem s344_3 : WP 344 0 3 [a0, vI x, a2, a3] S h Q ↔ WP 344 0 4 [a0, vI x, a2, a3] (vI x :: S) h Q := wp_iload rfl rfl
theorem s344_4 : WP 344 0 4 L (vI x0 :: vA (some a) :: S) h Q ↔ ((hk h a).1 = 100 ∧ (zw S ≤ 8 ∧ WP 28 0 0 [vA (some a), vI x0, vJ, vJ, vJ] [] h (zret 344 0 4 7 L S Q))) := wp_V1 (c := 100) rfl rfl (fun _ => rfl) rfl rfl (zcan_of rfl rfl) rfl rfl rfl
theorem s344_7 : WP 344 0 7 L (vI x :: S) h Q ↔ WP 344 0 8 L (vL x :: S) h Q := wp_pl rfl rfl rfl
theorem s344_8 : WP 344 0 8 L (vL y :: vI x :: vA (some a) :: S) h Q ↔ (((hk h a).1 = 4 ∧ (0 ≤ x ∧ x < ((hk h a).2 : Int)) ∧ zNC ≤ a) ∧ WP 344 0 9 L S (hput h a x.toNat (vL y)) Q) := wp_if rfl rfl rfl
theorem s344_9 : WP 344 0 9 L S h Q ↔ WP 344 0 15 L S h Q := wp_pl rfl rfl rfl
theorem s344_12 : WP 344 0 12 [a0, a1, a2, a3] (vA r :: S) h Q ↔ WP 344 0 13 [a0, a1, a2, vA r] S h Q := wp_astore rfl rfl rfl
theorem s344_13 : WP 344 0 13 L S h Q ↔ WP 344 0 14 L (vI 1 :: S) h Q := wp_pl rfl rfl rfl
theorem s344_14 : WP 344 0 14 L [vI x] h Q ↔ Q (.inl (some (vI x))) h := wp_iret0 rfl rfl
theorem s344_15 : WP 344 0 15 L S h Q ↔ WP 344 0 16 L (vI 0 :: S) h Q := wp_pl rfl rfl rfl
theorem s344_16 : WP 344 0 16 L [vI x] h Q ↔ Q (.inl (some (vI x))) h := wp_iret0 rfl rfl
/-! RepeatFreeLaw.growth(LRepeatFree;I[J)I -/
theorem s345_0 : WP 345 0 0 [a0, a1, vA r, a3] S h Q ↔ WP 345 0 1 [a0, a1, vA r, a3] (vA r :: S) h Q := wp_aload rfl rfl
theorem s345_1 : WP 345 0 1 L S h Q ↔ WP 345 0 2 L (vI 0 :: S) h Q := wp_pl rfl rfl rfl
theorem s345_2 : WP 345 0 2 [vA r, a1, a2, a3] S h Q ↔ WP 345 0 3 [vA r, a1, a2, a3] (vA r :: S) h Q := wp_aload rfl rfl
theorem s345_3 : WP 345 0 3 [a0, vI x, a2, a3] S h Q ↔ WP 345 0 4 [a0, vI x, a2, a3] (vI x :: S) h Q := wp_iload rfl rfl
theorem s345_4 : WP 345 0 4 L (vI x0 :: vA (some a) :: S) h Q ↔ ((hk h a).1 = 100 ∧ (zw S ≤ 8 ∧ WP 29 0 0 [vA (some a), vI x0, vJ, vJ] [] h (zret 345 0 4 7 L S Q))) := wp_V1 (c := 100) rfl rfl (fun _ => rfl) rfl rfl (zcan_of rfl rfl) rfl rfl rfl
theorem s345_7 : WP 345 0 7 L (vI x :: S) h Q ↔ WP 345 0 8 L (vL x :: S) h Q := wp_pl rfl rfl rfl
theorem s345_8 : WP 345 0 8 L (vL y :: vI x :: vA (some a) :: S) h Q ↔ (((hk h a).1 = 4 ∧ (0 ≤ x ∧ x < ((hk h a).2 : Int)) ∧ zNC ≤ a) ∧ WP 345 0 9 L S (hput h a x.toNat (vL y)) Q) := wp_if rfl rfl rfl
theorem s345_9 : WP 345 0 9 L S h Q ↔ WP 345 0 15 L S h Q := wp_pl rfl rfl rfl
theorem s345_12 : WP 345 0 12 [a0, a1, a2, a3] (vA r :: S) h Q ↔ WP 345 0 13 [a0, a1, a2, vA r] S h Q := wp_astore rfl rfl rfl
theorem s345_13 : WP 345 0 13 L S h Q ↔ WP 345 0 14 L (vI 1 :: S) h Q := wp_pl rfl rfl rfl
theorem s345_14 : WP 345 0 14 L [vI x] h Q ↔ Q (.inl (some (vI x))) h := wp_iret0 rfl rfl
theorem s345_15 : WP 345 0 15 L S h Q ↔ WP 345 0 16 L (vI 0 :: S) h Q := wp_pl rfl rfl rfl
theorem s345_16 : WP 345 0 16 L [vI x] h Q ↔ Q (.inl (some (vI x))) h := wp_iret0 rfl rfl
/-! RepeatFreeLaw.image(LRepeatFree;I[J)I -/
theorem s346_0 : WP 346 0 0 [a0, a1, vA r, a3] S h Q ↔ WP 346 0 1 [a0, a1, vA r, a3] (vA r :: S) h Q := wp_aload rfl rfl
theorem s346_1 : WP 346 0 1 L S h Q ↔ WP 346 0 2 L (vI 0 :: S) h Q := wp_pl rfl rfl rfl
theorem s346_2 : WP 346 0 2 [vA r, a1, a2, a3] S h Q ↔ WP 346 0 3 [vA r, a1, a2, a3] (vA r :: S) h Q := wp_aload rfl rfl
theorem s346_3 : WP 346 0 3 [a0, vI x, a2, a3] S h Q ↔ WP 346 0 4 [a0, vI x, a2, a3] (vI x :: S) h Q := wp_iload rfl rfl
theorem s346_4 : WP 346 0 4 L (vI x0 :: vA (some a) :: S) h Q ↔ ((hk h a).1 = 100 ∧ (zw S ≤ 8 ∧ WP 32 0 0 [vA (some a), vI x0, vJ] [] h (zret 346 0 4 7 L S Q))) := wp_V1 (c := 100) rfl rfl (fun _ => rfl) rfl rfl (zcan_of rfl rfl) rfl rfl rfl
theorem s346_7 : WP 346 0 7 L (vI x :: S) h Q ↔ WP 346 0 8 L (vL x :: S) h Q := wp_pl rfl rfl rfl
theorem s346_8 : WP 346 0 8 L (vL y :: vI x :: vA (some a) :: S) h Q ↔ (((hk h a).1 = 4 ∧ (0 ≤ x ∧ x < ((hk h a).2 : Int)) ∧ zNC ≤ a) ∧ WP 346 0 9 L S (hput h a x.toNat (vL y)) Q) := wp_if rfl rfl rfl
theorem s346_9 : WP 346 0 9 L S h Q ↔ WP 346 0 18 L S h Q := wp_pl rfl rfl rfl
theorem s346_12 : WP 346 0 12 [a0, a1, a2, a3] (vA r :: S) h Q ↔ WP 346 0 13 [a0, a1, a2, vA r] S h Q := wp_astore rfl rfl rfl
theorem s346_13 : WP 346 0 13 L S h Q ↔ WP 346 0 14 L (vI 1 :: S) h Q := wp_pl rfl rfl rfl
theorem s346_14 : WP 346 0 14 L [vI x] h Q ↔ Q (.inl (some (vI x))) h := wp_iret0 rfl rfl
theorem s346_15 : WP 346 0 15 [a0, a1, a2, a3] (vA r :: S) h Q ↔ WP 346 0 16 [a0, a1, a2, vA r] S h Q := wp_astore rfl rfl rfl
theorem s346_16 : WP 346 0 16 L S h Q ↔ WP 346 0 17 L (vI 2 :: S) h Q := wp_pl rfl rfl rfl
theorem s346_17 : WP 346 0 17 L [vI x] h Q ↔ Q (.inl (some (vI x))) h := wp_iret0 rfl rfl
theorem s346_18 : WP 346 0 18 L S h Q ↔ WP 346 0 19 L (vI 0 :: S) h Q := wp_pl rfl rfl rfl
theorem s346_19 : WP 346 0 19 L [vI x] h Q ↔ Q (.inl (some (vI x))) h := wp_iret0 rfl rfl
/-! RepeatFreeLaw.imaged(LRepeatFree;III[J)I -/
theorem s347_0 : WP 347 0 0 [a0, a1, a2, a3, vA r, a5] S h Q ↔ WP 347 0 2 [a0, a1, a2, a3, vA r, a5] (vA r :: S) h Q := wp_aload rfl rfl
theorem s347_2 : WP 347 0 2 L S h Q ↔ WP 347 0 3 L (vI 0 :: S) h Q := wp_pl rfl rfl rfl
theorem s347_3 : WP 347 0 3 [vA r, a1, a2, a3, a4, a5] S h Q ↔ WP 347 0 4 [vA r, a1, a2, a3, a4, a5] (vA r :: S) h Q := wp_aload rfl rfl
theorem s347_4 : WP 347 0 4 [a0, vI x, a2, a3, a4, a5] S h Q ↔ WP 347 0 5 [a0, vI x, a2, a3, a4, a5] (vI x :: S) h Q := wp_iload rfl rfl
theorem s347_5 : WP 347 0 5 [a0, a1, vI x, a3, a4, a5] S h Q ↔ WP 347 0 6 [a0, a1, vI x, a3, a4, a5] (vI x :: S) h Q := wp_iload rfl rfl
theorem s347_6 : WP 347 0 6 [a0, a1, a2, vI x, a4, a5] S h Q ↔ WP 347 0 7 [a0, a1, a2, vI x, a4, a5] (vI x :: S) h Q := wp_iload rfl rfl
theorem s347_7 : WP 347 0 7 L (vI x2 :: vI x1 :: vI x0 :: vA (some a) :: S) h Q ↔ ((hk h a).1 = 100 ∧ (zw S ≤ 8 ∧ WP 33 0 0 [vA (some a), vI x0, vI x1, vI x2, vJ, vJ] [] h (zret 347 0 7 10 L S Q))) := wp_V1 (c := 100) rfl rfl (fun _ => rfl) rfl rfl (zcan_of rfl rfl) rfl rfl rfl
theorem s347_10 : WP 347 0 10 L (vI x :: S) h Q ↔ WP 347 0 11 L (vL x :: S) h Q := wp_pl rfl rfl rfl
theorem s347_11 : WP 347 0 11 L (vL y :: vI x :: vA (some a) :: S) h Q ↔ (((hk h a).1 = 4 ∧ (0 ≤ x ∧ x < ((hk h a).2 : Int)) ∧ zNC ≤ a) ∧ WP 347 0 12 L S (hput h a x.toNat (vL y)) Q) := wp_if rfl rfl rfl
theorem s347_12 : WP 347 0 12 L S h Q ↔ WP 347 0 23 L S h Q := wp_pl rfl rfl rfl
theorem s347_15 : WP 347 0 15 [a0, a1, a2, a3, a4, a5] (vA r :: S) h Q ↔ WP 347 0 17 [a0, a1, a2, a3, a4, vA r] S h Q := wp_astore rfl rfl rfl
theorem s347_17 : WP 347 0 17 L S h Q ↔ WP 347 0 18 L (vI 1 :: S) h Q := wp_pl rfl rfl rfl
theorem s347_18 : WP 347 0 18 L [vI x] h Q ↔ Q (.inl (some (vI x))) h := wp_iret0 rfl rfl
theorem s347_19 : WP 347 0 19 [a0, a1, a2, a3, a4, a5] (vA r :: S) h Q ↔ WP 347 0 21 [a0, a1, a2, a3, a4, vA r] S h Q := wp_astore rfl rfl rfl
theorem s347_21 : WP 347 0 21 L S h Q ↔ WP 347 0 22 L (vI 2 :: S) h Q := wp_pl rfl rfl rfl
theorem s347_22 : WP 347 0 22 L [vI x] h Q ↔ Q (.inl (some (vI x))) h := wp_iret0 rfl rfl
theorem s347_23 : WP 347 0 23 L S h Q ↔ WP 347 0 24 L (vI 0 :: S) h Q := wp_pl rfl rfl rfl
theorem s347_24 : WP 347 0 24 L [vI x] h Q ↔ Q (.inl (some (vI x))) h := wp_iret0 rfl rfl
/-! RepeatFreeLaw.keeps(LRepeatFree;II[J)I -/
theorem s348_0 : WP 348 0 0 [a0, a1, a2, vA r, a4] S h Q ↔ WP 348 0 1 [a0, a1, a2, vA r, a4] (vA r :: S) h Q := wp_aload rfl rfl
theorem s348_1 : WP 348 0 1 L S h Q ↔ WP 348 0 2 L (vI 0 :: S) h Q := wp_pl rfl rfl rfl
theorem s348_2 : WP 348 0 2 [vA r, a1, a2, a3, a4] S h Q ↔ WP 348 0 3 [vA r, a1, a2, a3, a4] (vA r :: S) h Q := wp_aload rfl rfl
theorem s348_3 : WP 348 0 3 [a0, vI x, a2, a3, a4] S h Q ↔ WP 348 0 4 [a0, vI x, a2, a3, a4] (vI x :: S) h Q := wp_iload rfl rfl
theorem s348_4 : WP 348 0 4 [a0, a1, vI x, a3, a4] S h Q ↔ WP 348 0 5 [a0, a1, vI x, a3, a4] (vI x :: S) h Q := wp_iload rfl rfl
theorem s348_5 : WP 348 0 5 L (vI x1 :: vI x0 :: vA (some a) :: S) h Q ↔ ((hk h a).1 = 100 ∧ (zw S ≤ 8 ∧ WP 45 0 0 [vA (some a), vI x0, vI x1, vJ] [] h (zret 348 0 5 8 L S Q))) := wp_V1 (c := 100) rfl rfl (fun _ => rfl) rfl rfl (zcan_of rfl rfl) rfl rfl rfl
theorem s348_8 : WP 348 0 8 L (vI x :: S) h Q ↔ WP 348 0 9 L (vL x :: S) h Q := wp_pl rfl rfl rfl
theorem s348_9 : WP 348 0 9 L (vL y :: vI x :: vA (some a) :: S) h Q ↔ (((hk h a).1 = 4 ∧ (0 ≤ x ∧ x < ((hk h a).2 : Int)) ∧ zNC ≤ a) ∧ WP 348 0 10 L S (hput h a x.toNat (vL y)) Q) := wp_if rfl rfl rfl
theorem s348_10 : WP 348 0 10 L S h Q ↔ WP 348 0 21 L S h Q := wp_pl rfl rfl rfl
theorem s348_13 : WP 348 0 13 [a0, a1, a2, a3, a4] (vA r :: S) h Q ↔ WP 348 0 15 [a0, a1, a2, a3, vA r] S h Q := wp_astore rfl rfl rfl
theorem s348_15 : WP 348 0 15 L S h Q ↔ WP 348 0 16 L (vI 1 :: S) h Q := wp_pl rfl rfl rfl
theorem s348_16 : WP 348 0 16 L [vI x] h Q ↔ Q (.inl (some (vI x))) h := wp_iret0 rfl rfl
theorem s348_17 : WP 348 0 17 [a0, a1, a2, a3, a4] (vA r :: S) h Q ↔ WP 348 0 19 [a0, a1, a2, a3, vA r] S h Q := wp_astore rfl rfl rfl
theorem s348_19 : WP 348 0 19 L S h Q ↔ WP 348 0 20 L (vI 2 :: S) h Q := wp_pl rfl rfl rfl
theorem s348_20 : WP 348 0 20 L [vI x] h Q ↔ Q (.inl (some (vI x))) h := wp_iret0 rfl rfl
theorem s348_21 : WP 348 0 21 L S h Q ↔ WP 348 0 22 L (vI 0 :: S) h Q := wp_pl rfl rfl rfl
theorem s348_22 : WP 348 0 22 L [vI x] h Q ↔ Q (.inl (some (vI x))) h := wp_iret0 rfl rfl
/-! RepeatFreeLaw.length(LRepeatFree;III[J)I -/
theorem s349_0 : WP 349 0 0 [a0, a1, a2, a3, vA r, a5] S h Q ↔ WP 349 0 2 [a0, a1, a2, a3, vA r, a5] (vA r :: S) h Q := wp_aload rfl rfl
theorem s349_2 : WP 349 0 2 L S h Q ↔ WP 349 0 3 L (vI 0 :: S) h Q := wp_pl rfl rfl rfl
theorem s349_3 : WP 349 0 3 [vA r, a1, a2, a3, a4, a5] S h Q ↔ WP 349 0 4 [vA r, a1, a2, a3, a4, a5] (vA r :: S) h Q := wp_aload rfl rfl
theorem s349_4 : WP 349 0 4 [a0, vI x, a2, a3, a4, a5] S h Q ↔ WP 349 0 5 [a0, vI x, a2, a3, a4, a5] (vI x :: S) h Q := wp_iload rfl rfl
theorem s349_5 : WP 349 0 5 [a0, a1, vI x, a3, a4, a5] S h Q ↔ WP 349 0 6 [a0, a1, vI x, a3, a4, a5] (vI x :: S) h Q := wp_iload rfl rfl
theorem s349_6 : WP 349 0 6 [a0, a1, a2, vI x, a4, a5] S h Q ↔ WP 349 0 7 [a0, a1, a2, vI x, a4, a5] (vI x :: S) h Q := wp_iload rfl rfl
theorem s349_7 : WP 349 0 7 L (vI x2 :: vI x1 :: vI x0 :: vA (some a) :: S) h Q ↔ ((hk h a).1 = 100 ∧ (zw S ≤ 8 ∧ WP 50 0 0 [vA (some a), vI x0, vI x1, vI x2] [] h (zret 349 0 7 10 L S Q))) := wp_V1 (c := 100) rfl rfl (fun _ => rfl) rfl rfl (zcan_of rfl rfl) rfl rfl rfl
theorem s349_10 : WP 349 0 10 L (vL y :: vI x :: vA (some a) :: S) h Q ↔ (((hk h a).1 = 4 ∧ (0 ≤ x ∧ x < ((hk h a).2 : Int)) ∧ zNC ≤ a) ∧ WP 349 0 11 L S (hput h a x.toNat (vL y)) Q) := wp_if rfl rfl rfl
theorem s349_11 : WP 349 0 11 L S h Q ↔ WP 349 0 22 L S h Q := wp_pl rfl rfl rfl
theorem s349_14 : WP 349 0 14 [a0, a1, a2, a3, a4, a5] (vA r :: S) h Q ↔ WP 349 0 16 [a0, a1, a2, a3, a4, vA r] S h Q := wp_astore rfl rfl rfl
theorem s349_16 : WP 349 0 16 L S h Q ↔ WP 349 0 17 L (vI 1 :: S) h Q := wp_pl rfl rfl rfl
theorem s349_17 : WP 349 0 17 L [vI x] h Q ↔ Q (.inl (some (vI x))) h := wp_iret0 rfl rfl
theorem s349_18 : WP 349 0 18 [a0, a1, a2, a3, a4, a5] (vA r :: S) h Q ↔ WP 349 0 20 [a0, a1, a2, a3, a4, vA r] S h Q := wp_astore rfl rfl rfl
theorem s349_20 : WP 349 0 20 L S h Q ↔ WP 349 0 21 L (vI 2 :: S) h Q := wp_pl rfl rfl rfl
theorem s349_21 : WP 349 0 21 L [vI x] h Q ↔ Q (.inl (some (vI x))) h := wp_iret0 rfl rfl
theorem s349_22 : WP 349 0 22 L S h Q ↔ WP 349 0 23 L (vI 0 :: S) h Q := wp_pl rfl rfl rfl
theorem s349_23 : WP 349 0 23 L [vI x] h Q ↔ Q (.inl (some (vI x))) h := wp_iret0 rfl rfl
/-! RepeatFreeLaw.limit(LRepeatFree;III[J)I -/
theorem s350_0 : WP 350 0 0 [a0, a1, a2, a3, vA r, a5] S h Q ↔ WP 350 0 2 [a0, a1, a2, a3, vA r, a5] (vA r :: S) h Q := wp_aload rfl rfl
theorem s350_2 : WP 350 0 2 L S h Q ↔ WP 350 0 3 L (vI 0 :: S) h Q := wp_pl rfl rfl rfl
theorem s350_3 : WP 350 0 3 [vA r, a1, a2, a3, a4, a5] S h Q ↔ WP 350 0 4 [vA r, a1, a2, a3, a4, a5] (vA r :: S) h Q := wp_aload rfl rfl
theorem s350_4 : WP 350 0 4 [a0, vI x, a2, a3, a4, a5] S h Q ↔ WP 350 0 5 [a0, vI x, a2, a3, a4, a5] (vI x :: S) h Q := wp_iload rfl rfl
theorem s350_5 : WP 350 0 5 [a0, a1, vI x, a3, a4, a5] S h Q ↔ WP 350 0 6 [a0, a1, vI x, a3, a4, a5] (vI x :: S) h Q := wp_iload rfl rfl
theorem s350_6 : WP 350 0 6 [a0, a1, a2, vI x, a4, a5] S h Q ↔ WP 350 0 7 [a0, a1, a2, vI x, a4, a5] (vI x :: S) h Q := wp_iload rfl rfl
theorem s350_7 : WP 350 0 7 L (vI x2 :: vI x1 :: vI x0 :: vA (some a) :: S) h Q ↔ ((hk h a).1 = 100 ∧ (zw S ≤ 8 ∧ WP 52 0 0 [vA (some a), vI x0, vI x1, vI x2, vJ] [] h (zret 350 0 7 10 L S Q))) := wp_V1 (c := 100) rfl rfl (fun _ => rfl) rfl rfl (zcan_of rfl rfl) rfl rfl rfl
theorem s350_10 : WP 350 0 10 L (vI x :: S) h Q ↔ WP 350 0 11 L (vL x :: S) h Q := wp_pl rfl rfl rfl
theorem s350_11 : WP 350 0 11 L (vL y :: vI x :: vA (some a) :: S) h Q ↔ (((hk h a).1 = 4 ∧ (0 ≤ x ∧ x < ((hk h a).2 : Int)) ∧ zNC ≤ a) ∧ WP 350 0 12 L S (hput h a x.toNat (vL y)) Q) := wp_if rfl rfl rfl
theorem s350_12 : WP 350 0 12 L S h Q ↔ WP 350 0 19 L S h Q := wp_pl rfl rfl rfl
theorem s350_15 : WP 350 0 15 [a0, a1, a2, a3, a4, a5] (vA r :: S) h Q ↔ WP 350 0 17 [a0, a1, a2, a3, a4, vA r] S h Q := wp_astore rfl rfl rfl
theorem s350_17 : WP 350 0 17 L S h Q ↔ WP 350 0 18 L (vI 1 :: S) h Q := wp_pl rfl rfl rfl
theorem s350_18 : WP 350 0 18 L [vI x] h Q ↔ Q (.inl (some (vI x))) h := wp_iret0 rfl rfl
theorem s350_19 : WP 350 0 19 L S h Q ↔ WP 350 0 20 L (vI 0 :: S) h Q := wp_pl rfl rfl rfl
theorem s350_20 : WP 350 0 20 L [vI x] h Q ↔ Q (.inl (some (vI x))) h := wp_iret0 rfl rfl
/-! RepeatFreeLaw.local(LRepeatFree;I[J)I -/
theorem s351_0 : WP 351 0 0 [a0, a1, vA r, a3] S h Q ↔ WP 351 0 1 [a0, a1, vA r, a3] (vA r :: S) h Q := wp_aload rfl rfl
theorem s351_1 : WP 351 0 1 L S h Q ↔ WP 351 0 2 L (vI 0 :: S) h Q := wp_pl rfl rfl rfl
theorem s351_2 : WP 351 0 2 [vA r, a1, a2, a3] S h Q ↔ WP 351 0 3 [vA r, a1, a2, a3] (vA r :: S) h Q := wp_aload rfl rfl
theorem s351_3 : WP 351 0 3 [a0, vI x, a2, a3] S h Q ↔ WP 351 0 4 [a0, vI x, a2, a3] (vI x :: S) h Q := wp_iload rfl rfl
theorem s351_4 : WP 351 0 4 L (vI x0 :: vA (some a) :: S) h Q ↔ ((hk h a).1 = 100 ∧ (zw S ≤ 8 ∧ WP 53 0 0 [vA (some a), vI x0, vJ] [] h (zret 351 0 4 7 L S Q))) := wp_V1 (c := 100) rfl rfl (fun _ => rfl) rfl rfl (zcan_of rfl rfl) rfl rfl rfl
theorem s351_7 : WP 351 0 7 L (vI x :: S) h Q ↔ WP 351 0 8 L (vL x :: S) h Q := wp_pl rfl rfl rfl
theorem s351_8 : WP 351 0 8 L (vL y :: vI x :: vA (some a) :: S) h Q ↔ (((hk h a).1 = 4 ∧ (0 ≤ x ∧ x < ((hk h a).2 : Int)) ∧ zNC ≤ a) ∧ WP 351 0 9 L S (hput h a x.toNat (vL y)) Q) := wp_if rfl rfl rfl
theorem s351_9 : WP 351 0 9 L S h Q ↔ WP 351 0 15 L S h Q := wp_pl rfl rfl rfl
theorem s351_12 : WP 351 0 12 [a0, a1, a2, a3] (vA r :: S) h Q ↔ WP 351 0 13 [a0, a1, a2, vA r] S h Q := wp_astore rfl rfl rfl
theorem s351_13 : WP 351 0 13 L S h Q ↔ WP 351 0 14 L (vI 1 :: S) h Q := wp_pl rfl rfl rfl
theorem s351_14 : WP 351 0 14 L [vI x] h Q ↔ Q (.inl (some (vI x))) h := wp_iret0 rfl rfl
theorem s351_15 : WP 351 0 15 L S h Q ↔ WP 351 0 16 L (vI 0 :: S) h Q := wp_pl rfl rfl rfl
theorem s351_16 : WP 351 0 16 L [vI x] h Q ↔ Q (.inl (some (vI x))) h := wp_iret0 rfl rfl
/-! RepeatFreeLaw.loose(LRepeatFree;II[J)I -/
theorem s352_0 : WP 352 0 0 [a0, a1, a2, vA r, a4] S h Q ↔ WP 352 0 1 [a0, a1, a2, vA r, a4] (vA r :: S) h Q := wp_aload rfl rfl
theorem s352_1 : WP 352 0 1 L S h Q ↔ WP 352 0 2 L (vI 0 :: S) h Q := wp_pl rfl rfl rfl
theorem s352_2 : WP 352 0 2 [vA r, a1, a2, a3, a4] S h Q ↔ WP 352 0 3 [vA r, a1, a2, a3, a4] (vA r :: S) h Q := wp_aload rfl rfl
theorem s352_3 : WP 352 0 3 [a0, vI x, a2, a3, a4] S h Q ↔ WP 352 0 4 [a0, vI x, a2, a3, a4] (vI x :: S) h Q := wp_iload rfl rfl
theorem s352_4 : WP 352 0 4 [a0, a1, vI x, a3, a4] S h Q ↔ WP 352 0 5 [a0, a1, vI x, a3, a4] (vI x :: S) h Q := wp_iload rfl rfl
theorem s352_5 : WP 352 0 5 L (vI x1 :: vI x0 :: vA (some a) :: S) h Q ↔ ((hk h a).1 = 100 ∧ (zw S ≤ 8 ∧ WP 56 0 0 [vA (some a), vI x0, vI x1, vJ] [] h (zret 352 0 5 8 L S Q))) := wp_V1 (c := 100) rfl rfl (fun _ => rfl) rfl rfl (zcan_of rfl rfl) rfl rfl rfl
theorem s352_8 : WP 352 0 8 L (vI x :: S) h Q ↔ WP 352 0 9 L (vL x :: S) h Q := wp_pl rfl rfl rfl
theorem s352_9 : WP 352 0 9 L (vL y :: vI x :: vA (some a) :: S) h Q ↔ (((hk h a).1 = 4 ∧ (0 ≤ x ∧ x < ((hk h a).2 : Int)) ∧ zNC ≤ a) ∧ WP 352 0 10 L S (hput h a x.toNat (vL y)) Q) := wp_if rfl rfl rfl
theorem s352_10 : WP 352 0 10 L S h Q ↔ WP 352 0 17 L S h Q := wp_pl rfl rfl rfl
theorem s352_13 : WP 352 0 13 [a0, a1, a2, a3, a4] (vA r :: S) h Q ↔ WP 352 0 15 [a0, a1, a2, a3, vA r] S h Q := wp_astore rfl rfl rfl
theorem s352_15 : WP 352 0 15 L S h Q ↔ WP 352 0 16 L (vI 1 :: S) h Q := wp_pl rfl rfl rfl
theorem s352_16 : WP 352 0 16 L [vI x] h Q ↔ Q (.inl (some (vI x))) h := wp_iret0 rfl rfl
theorem s352_17 : WP 352 0 17 L S h Q ↔ WP 352 0 18 L (vI 0 :: S) h Q := wp_pl rfl rfl rfl
theorem s352_18 : WP 352 0 18 L [vI x] h Q ↔ Q (.inl (some (vI x))) h := wp_iret0 rfl rfl
/-! RepeatFreeLaw.many(LRepeatFree;I[J)I -/
theorem s353_0 : WP 353 0 0 [a0, a1, vA r, a3] S h Q ↔ WP 353 0 1 [a0, a1, vA r, a3] (vA r :: S) h Q := wp_aload rfl rfl
theorem s353_1 : WP 353 0 1 L S h Q ↔ WP 353 0 2 L (vI 0 :: S) h Q := wp_pl rfl rfl rfl
theorem s353_2 : WP 353 0 2 [vA r, a1, a2, a3] S h Q ↔ WP 353 0 3 [vA r, a1, a2, a3] (vA r :: S) h Q := wp_aload rfl rfl
theorem s353_3 : WP 353 0 3 [a0, vI x, a2, a3] S h Q ↔ WP 353 0 4 [a0, vI x, a2, a3] (vI x :: S) h Q := wp_iload rfl rfl
theorem s353_4 : WP 353 0 4 L (vI x0 :: vA (some a) :: S) h Q ↔ ((hk h a).1 = 100 ∧ (zw S ≤ 8 ∧ WP 58 0 0 [vA (some a), vI x0] [] h (zret 353 0 4 7 L S Q))) := wp_V1 (c := 100) rfl rfl (fun _ => rfl) rfl rfl (zcan_of rfl rfl) rfl rfl rfl
theorem s353_7 : WP 353 0 7 L (vI x :: S) h Q ↔ WP 353 0 8 L (vL x :: S) h Q := wp_pl rfl rfl rfl
theorem s353_8 : WP 353 0 8 L (vL y :: vI x :: vA (some a) :: S) h Q ↔ (((hk h a).1 = 4 ∧ (0 ≤ x ∧ x < ((hk h a).2 : Int)) ∧ zNC ≤ a) ∧ WP 353 0 9 L S (hput h a x.toNat (vL y)) Q) := wp_if rfl rfl rfl
theorem s353_9 : WP 353 0 9 L S h Q ↔ WP 353 0 15 L S h Q := wp_pl rfl rfl rfl
theorem s353_12 : WP 353 0 12 [a0, a1, a2, a3] (vA r :: S) h Q ↔ WP 353 0 13 [a0, a1, a2, vA r] S h Q := wp_astore rfl rfl rfl
theorem s353_13 : WP 353 0 13 L S h Q ↔ WP 353 0 14 L (vI 1 :: S) h Q := wp_pl rfl rfl rfl
theorem s353_14 : WP 353 0 14 L [vI x] h Q ↔ Q (.inl (some (vI x))) h := wp_iret0 rfl rfl
theorem s353_15 : WP 353 0 15 L S h Q ↔ WP 353 0 16 L (vI 0 :: S) h Q := wp_pl rfl rfl rfl
theorem s353_16 : WP 353 0 16 L [vI x] h Q ↔ Q (.inl (some (vI x))) h := wp_iret0 rfl rfl
/-! RepeatFreeLaw.met(LRepeatFree;II[J)I -/
theorem s354_0 : WP 354 0 0 [a0, a1, a2, vA r, a4] S h Q ↔ WP 354 0 1 [a0, a1, a2, vA r, a4] (vA r :: S) h Q := wp_aload rfl rfl
theorem s354_1 : WP 354 0 1 L S h Q ↔ WP 354 0 2 L (vI 0 :: S) h Q := wp_pl rfl rfl rfl
theorem s354_2 : WP 354 0 2 [vA r, a1, a2, a3, a4] S h Q ↔ WP 354 0 3 [vA r, a1, a2, a3, a4] (vA r :: S) h Q := wp_aload rfl rfl
theorem s354_3 : WP 354 0 3 [a0, vI x, a2, a3, a4] S h Q ↔ WP 354 0 4 [a0, vI x, a2, a3, a4] (vI x :: S) h Q := wp_iload rfl rfl
theorem s354_4 : WP 354 0 4 [a0, a1, vI x, a3, a4] S h Q ↔ WP 354 0 5 [a0, a1, vI x, a3, a4] (vI x :: S) h Q := wp_iload rfl rfl
theorem s354_5 : WP 354 0 5 L (vI x1 :: vI x0 :: vA (some a) :: S) h Q ↔ ((hk h a).1 = 100 ∧ (zw S ≤ 8 ∧ WP 60 0 0 [vA (some a), vI x0, vI x1, vJ, vJ] [] h (zret 354 0 5 8 L S Q))) := wp_V1 (c := 100) rfl rfl (fun _ => rfl) rfl rfl (zcan_of rfl rfl) rfl rfl rfl
theorem s354_8 : WP 354 0 8 L (vI x :: S) h Q ↔ WP 354 0 9 L (vL x :: S) h Q := wp_pl rfl rfl rfl
theorem s354_9 : WP 354 0 9 L (vL y :: vI x :: vA (some a) :: S) h Q ↔ (((hk h a).1 = 4 ∧ (0 ≤ x ∧ x < ((hk h a).2 : Int)) ∧ zNC ≤ a) ∧ WP 354 0 10 L S (hput h a x.toNat (vL y)) Q) := wp_if rfl rfl rfl
theorem s354_10 : WP 354 0 10 L S h Q ↔ WP 354 0 21 L S h Q := wp_pl rfl rfl rfl
theorem s354_13 : WP 354 0 13 [a0, a1, a2, a3, a4] (vA r :: S) h Q ↔ WP 354 0 15 [a0, a1, a2, a3, vA r] S h Q := wp_astore rfl rfl rfl
theorem s354_15 : WP 354 0 15 L S h Q ↔ WP 354 0 16 L (vI 1 :: S) h Q := wp_pl rfl rfl rfl
theorem s354_16 : WP 354 0 16 L [vI x] h Q ↔ Q (.inl (some (vI x))) h := wp_iret0 rfl rfl
theorem s354_17 : WP 354 0 17 [a0, a1, a2, a3, a4] (vA r :: S) h Q ↔ WP 354 0 19 [a0, a1, a2, a3, vA r] S h Q := wp_astore rfl rfl rfl
theorem s354_19 : WP 354 0 19 L S h Q ↔ WP 354 0 20 L (vI 2 :: S) h Q := wp_pl rfl rfl rfl
theorem s354_20 : WP 354 0 20 L [vI x] h Q ↔ Q (.inl (some (vI x))) h := wp_iret0 rfl rfl
theorem s354_21 : WP 354 0 21 L S h Q ↔ WP 354 0 22 L (vI 0 :: S) h Q := wp_pl rfl rfl rfl
theorem s354_22 : WP 354 0 22 L [vI x] h Q ↔ Q (.inl (some (vI x))) h := wp_iret0 rfl rfl
/-! RepeatFreeLaw.next(LRepeatFree;[J)I -/
theorem s355_0 : WP 355 0 0 [a0, vA r, a2] S h Q ↔ WP 355 0 1 [a0, vA r, a2] (vA r :: S) h Q := wp_aload rfl rfl
theorem s355_1 : WP 355 0 1 L S h Q ↔ WP 355 0 2 L (vI 0 :: S) h Q := wp_pl rfl rfl rfl
theorem s355_2 : WP 355 0 2 [vA r, a1, a2] S h Q ↔ WP 355 0 3 [vA r, a1, a2] (vA r :: S) h Q := wp_aload rfl rfl
theorem s355_3 : WP 355 0 3 L (vA (some a) :: S) h Q ↔ ((hk h a).1 = 100 ∧ (zw S ≤ 8 ∧ WP 64 0 0 [vA (some a), vJ, vJ, vJ, vJ, vJ, vJ] [] h (zret 355 0 3 6 L S Q))) := wp_V1 (c := 100) rfl rfl (fun _ => rfl) rfl rfl (zcan_of rfl rfl) rfl rfl rfl
theorem s355_6 : WP 355 0 6 L (vI x :: S) h Q ↔ WP 355 0 7 L (vL x :: S) h Q := wp_pl rfl rfl rfl
theorem s355_7 : WP 355 0 7 L (vL y :: vI x :: vA (some a) :: S) h Q ↔ (((hk h a).1 = 4 ∧ (0 ≤ x ∧ x < ((hk h a).2 : Int)) ∧ zNC ≤ a) ∧ WP 355 0 8 L S (hput h a x.toNat (vL y)) Q) := wp_if rfl rfl rfl
theorem s355_8 : WP 355 0 8 L S h Q ↔ WP 355 0 14 L S h Q := wp_pl rfl rfl rfl
theorem s355_11 : WP 355 0 11 [a0, a1, a2] (vA r :: S) h Q ↔ WP 355 0 12 [a0, a1, vA r] S h Q := wp_astore rfl rfl rfl
theorem s355_12 : WP 355 0 12 L S h Q ↔ WP 355 0 13 L (vI 1 :: S) h Q := wp_pl rfl rfl rfl
theorem s355_13 : WP 355 0 13 L [vI x] h Q ↔ Q (.inl (some (vI x))) h := wp_iret0 rfl rfl
theorem s355_14 : WP 355 0 14 L S h Q ↔ WP 355 0 15 L (vI 0 :: S) h Q := wp_pl rfl rfl rfl
theorem s355_15 : WP 355 0 15 L [vI x] h Q ↔ Q (.inl (some (vI x))) h := wp_iret0 rfl rfl
/-! RepeatFreeLaw.nth(LRepeatFree;II[J)I -/
theorem s356_0 : WP 356 0 0 [a0, a1, a2, vA r, a4] S h Q ↔ WP 356 0 1 [a0, a1, a2, vA r, a4] (vA r :: S) h Q := wp_aload rfl rfl
theorem s356_1 : WP 356 0 1 L S h Q ↔ WP 356 0 2 L (vI 0 :: S) h Q := wp_pl rfl rfl rfl
theorem s356_2 : WP 356 0 2 [vA r, a1, a2, a3, a4] S h Q ↔ WP 356 0 3 [vA r, a1, a2, a3, a4] (vA r :: S) h Q := wp_aload rfl rfl
theorem s356_3 : WP 356 0 3 [a0, vI x, a2, a3, a4] S h Q ↔ WP 356 0 4 [a0, vI x, a2, a3, a4] (vI x :: S) h Q := wp_iload rfl rfl
theorem s356_4 : WP 356 0 4 [a0, a1, vI x, a3, a4] S h Q ↔ WP 356 0 5 [a0, a1, vI x, a3, a4] (vI x :: S) h Q := wp_iload rfl rfl
theorem s356_5 : WP 356 0 5 L (vI x1 :: vI x0 :: vA (some a) :: S) h Q ↔ ((hk h a).1 = 100 ∧ (zw S ≤ 8 ∧ WP 65 0 0 [vA (some a), vI x0, vI x1, vJ, vJ, vJ] [] h (zret 356 0 5 8 L S Q))) := wp_V1 (c := 100) rfl rfl (fun _ => rfl) rfl rfl (zcan_of rfl rfl) rfl rfl rfl
theorem s356_8 : WP 356 0 8 L (vI x :: S) h Q ↔ WP 356 0 9 L (vL x :: S) h Q := wp_pl rfl rfl rfl
theorem s356_9 : WP 356 0 9 L (vL y :: vI x :: vA (some a) :: S) h Q ↔ (((hk h a).1 = 4 ∧ (0 ≤ x ∧ x < ((hk h a).2 : Int)) ∧ zNC ≤ a) ∧ WP 356 0 10 L S (hput h a x.toNat (vL y)) Q) := wp_if rfl rfl rfl
theorem s356_10 : WP 356 0 10 L S h Q ↔ WP 356 0 17 L S h Q := wp_pl rfl rfl rfl
theorem s356_13 : WP 356 0 13 [a0, a1, a2, a3, a4] (vA r :: S) h Q ↔ WP 356 0 15 [a0, a1, a2, a3, vA r] S h Q := wp_astore rfl rfl rfl
theorem s356_15 : WP 356 0 15 L S h Q ↔ WP 356 0 16 L (vI 1 :: S) h Q := wp_pl rfl rfl rfl
theorem s356_16 : WP 356 0 16 L [vI x] h Q ↔ Q (.inl (some (vI x))) h := wp_iret0 rfl rfl
theorem s356_17 : WP 356 0 17 L S h Q ↔ WP 356 0 18 L (vI 0 :: S) h Q := wp_pl rfl rfl rfl
theorem s356_18 : WP 356 0 18 L [vI x] h Q ↔ Q (.inl (some (vI x))) h := wp_iret0 rfl rfl
/-! RepeatFreeLaw.often(LRepeatFree;IIII[J)I -/
theorem s357_0 : WP 357 0 0 [a0, a1, a2, a3, a4, vA r, a6] S h Q ↔ WP 357 0 2 [a0, a1, a2, a3, a4, vA r, a6] (vA r :: S) h Q := wp_aload rfl rfl
theorem s357_2 : WP 357 0 2 L S h Q ↔ WP 357 0 3 L (vI 0 :: S) h Q := wp_pl rfl rfl rfl
theorem s357_3 : WP 357 0 3 [vA r, a1, a2, a3, a4, a5, a6] S h Q ↔ WP 357 0 4 [vA r, a1, a2, a3, a4, a5, a6] (vA r :: S) h Q := wp_aload rfl rfl
theorem s357_4 : WP 357 0 4 [a0, vI x, a2, a3, a4, a5, a6] S h Q ↔ WP 357 0 5 [a0, vI x, a2, a3, a4, a5, a6] (vI x :: S) h Q := wp_iload rfl rfl
theorem s357_5 : WP 357 0 5 [a0, a1, vI x, a3, a4, a5, a6] S h Q ↔ WP 357 0 6 [a0, a1, vI x, a3, a4, a5, a6] (vI x :: S) h Q := wp_iload rfl rfl
theorem s357_6 : WP 357 0 6 [a0, a1, a2, vI x, a4, a5, a6] S h Q ↔ WP 357 0 7 [a0, a1, a2, vI x, a4, a5, a6] (vI x :: S) h Q := wp_iload rfl rfl
theorem s357_7 : WP 357 0 7 [a0, a1, a2, a3, vI x, a5, a6] S h Q ↔ WP 357 0 9 [a0, a1, a2, a3, vI x, a5, a6] (vI x :: S) h Q := wp_iload rfl rfl
theorem s357_9 : WP 357 0 9 L (vI x3 :: vI x2 :: vI x1 :: vI x0 :: vA (some a) :: S) h Q ↔ ((hk h a).1 = 100 ∧ (zw S ≤ 8 ∧ WP 66 0 0 [vA (some a), vI x0, vI x1, vI x2, vI x3, vJ] [] h (zret 357 0 9 12 L S Q))) := wp_V1 (c := 100) rfl rfl (fun _ => rfl) rfl rfl (zcan_of rfl rfl) rfl rfl rfl
theorem s357_12 : WP 357 0 12 L (vL y :: vI x :: vA (some a) :: S) h Q ↔ (((hk h a).1 = 4 ∧ (0 ≤ x ∧ x < ((hk h a).2 : Int)) ∧ zNC ≤ a) ∧ WP 357 0 13 L S (hput h a x.toNat (vL y)) Q) := wp_if rfl rfl rfl
theorem s357_13 : WP 357 0 13 L S h Q ↔ WP 357 0 24 L S h Q := wp_pl rfl rfl rfl
theorem s357_16 : WP 357 0 16 [a0, a1, a2, a3, a4, a5, a6] (vA r :: S) h Q ↔ WP 357 0 18 [a0, a1, a2, a3, a4, a5, vA r] S h Q := wp_astore rfl rfl rfl
theorem s357_18 : WP 357 0 18 L S h Q ↔ WP 357 0 19 L (vI 1 :: S) h Q := wp_pl rfl rfl rfl
theorem s357_19 : WP 357 0 19 L [vI x] h Q ↔ Q (.inl (some (vI x))) h := wp_iret0 rfl rfl
theorem s357_20 : WP 357 0 20 [a0, a1, a2, a3, a4, a5, a6] (vA r :: S) h Q ↔ WP 357 0 22 [a0, a1, a2, a3, a4, a5, vA r] S h Q := wp_astore rfl rfl rfl
theorem s357_22 : WP 357 0 22 L S h Q ↔ WP 357 0 23 L (vI 2 :: S) h Q := wp_pl rfl rfl rfl
theorem s357_23 : WP 357 0 23 L [vI x] h Q ↔ Q (.inl (some (vI x))) h := wp_iret0 rfl rfl
theorem s357_24 : WP 357 0 24 L S h Q ↔ WP 357 0 25 L (vI 0 :: S) h Q := wp_pl rfl rfl rfl
theorem s357_25 : WP 357 0 25 L [vI x] h Q ↔ Q (.inl (some (vI x))) h := wp_iret0 rfl rfl
/-! RepeatFreeLaw.pattern(LRepeatFree;II[J)I -/
theorem s358_0 : WP 358 0 0 [a0, a1, a2, vA r, a4] S h Q ↔ WP 358 0 1 [a0, a1, a2, vA r, a4] (vA r :: S) h Q := wp_aload rfl rfl
theorem s358_1 : WP 358 0 1 L S h Q ↔ WP 358 0 2 L (vI 0 :: S) h Q := wp_pl rfl rfl rfl
theorem s358_2 : WP 358 0 2 [vA r, a1, a2, a3, a4] S h Q ↔ WP 358 0 3 [vA r, a1, a2, a3, a4] (vA r :: S) h Q := wp_aload rfl rfl
theorem s358_3 : WP 358 0 3 [a0, vI x, a2, a3, a4] S h Q ↔ WP 358 0 4 [a0, vI x, a2, a3, a4] (vI x :: S) h Q := wp_iload rfl rfl
theorem s358_4 : WP 358 0 4 [a0, a1, vI x, a3, a4] S h Q ↔ WP 358 0 5 [a0, a1, vI x, a3, a4] (vI x :: S) h Q := wp_iload rfl rfl
theorem s358_5 : WP 358 0 5 L (vI x1 :: vI x0 :: vA (some a) :: S) h Q ↔ ((hk h a).1 = 100 ∧ (zw S ≤ 8 ∧ WP 68 0 0 [vA (some a), vI x0, vI x1, vJ] [] h (zret 358 0 5 8 L S Q))) := wp_V1 (c := 100) rfl rfl (fun _ => rfl) rfl rfl (zcan_of rfl rfl) rfl rfl rfl
theorem s358_8 : WP 358 0 8 L (vI x :: S) h Q ↔ WP 358 0 9 L (vL x :: S) h Q := wp_pl rfl rfl rfl
theorem s358_9 : WP 358 0 9 L (vL y :: vI x :: vA (some a) :: S) h Q ↔ (((hk h a).1 = 4 ∧ (0 ≤ x ∧ x < ((hk h a).2 : Int)) ∧ zNC ≤ a) ∧ WP 358 0 10 L S (hput h a x.toNat (vL y)) Q) := wp_if rfl rfl rfl
theorem s358_10 : WP 358 0 10 L S h Q ↔ WP 358 0 21 L S h Q := wp_pl rfl rfl rfl
theorem s358_13 : WP 358 0 13 [a0, a1, a2, a3, a4] (vA r :: S) h Q ↔ WP 358 0 15 [a0, a1, a2, a3, vA r] S h Q := wp_astore rfl rfl rfl
theorem s358_15 : WP 358 0 15 L S h Q ↔ WP 358 0 16 L (vI 1 :: S) h Q := wp_pl rfl rfl rfl
theorem s358_16 : WP 358 0 16 L [vI x] h Q ↔ Q (.inl (some (vI x))) h := wp_iret0 rfl rfl
theorem s358_17 : WP 358 0 17 [a0, a1, a2, a3, a4] (vA r :: S) h Q ↔ WP 358 0 19 [a0, a1, a2, a3, vA r] S h Q := wp_astore rfl rfl rfl
theorem s358_19 : WP 358 0 19 L S h Q ↔ WP 358 0 20 L (vI 2 :: S) h Q := wp_pl rfl rfl rfl
theorem s358_20 : WP 358 0 20 L [vI x] h Q ↔ Q (.inl (some (vI x))) h := wp_iret0 rfl rfl
theorem s358_21 : WP 358 0 21 L S h Q ↔ WP 358 0 22 L (vI 0 :: S) h Q := wp_pl rfl rfl rfl
theorem s358_22 : WP 358 0 22 L [vI x] h Q ↔ Q (.inl (some (vI x))) h := wp_iret0 rfl rfl
/-! RepeatFreeLaw.pop(LRepeatFree;[J)I -/
theorem s359_0 : WP 359 0 0 [a0, vA r, a2] S h Q ↔ WP 359 0 1 [a0, vA r, a2] (vA r :: S) h Q := wp_aload rfl rfl
theorem s359_1 : WP 359 0 1 L S h Q ↔ WP 359 0 2 L (vI 0 :: S) h Q := wp_pl rfl rfl rfl
theorem s359_2 : WP 359 0 2 [vA r, a1, a2] S h Q ↔ WP 359 0 3 [vA r, a1, a2] (vA r :: S) h Q := wp_aload rfl rfl
theorem s359_3 : WP 359 0 3 L (vA (some a) :: S) h Q ↔ ((hk h a).1 = 100 ∧ (zw S ≤ 8 ∧ WP 71 0 0 [vA (some a)] [] h (zret 359 0 3 6 L S Q))) := wp_V1 (c := 100) rfl rfl (fun _ => rfl) rfl rfl (zcan_of rfl rfl) rfl rfl rfl
theorem s359_6 : WP 359 0 6 L (vI x :: S) h Q ↔ WP 359 0 7 L (vL x :: S) h Q := wp_pl rfl rfl rfl
theorem s359_7 : WP 359 0 7 L (vL y :: vI x :: vA (some a) :: S) h Q ↔ (((hk h a).1 = 4 ∧ (0 ≤ x ∧ x < ((hk h a).2 : Int)) ∧ zNC ≤ a) ∧ WP 359 0 8 L S (hput h a x.toNat (vL y)) Q) := wp_if rfl rfl rfl
theorem s359_8 : WP 359 0 8 L S h Q ↔ WP 359 0 14 L S h Q := wp_pl rfl rfl rfl
theorem s359_11 : WP 359 0 11 [a0, a1, a2] (vA r :: S) h Q ↔ WP 359 0 12 [a0, a1, vA r] S h Q := wp_astore rfl rfl rfl
theorem s359_12 : WP 359 0 12 L S h Q ↔ WP 359 0 13 L (vI 1 :: S) h Q := wp_pl rfl rfl rfl
theorem s359_13 : WP 359 0 13 L [vI x] h Q ↔ Q (.inl (some (vI x))) h := wp_iret0 rfl rfl
theorem s359_14 : WP 359 0 14 L S h Q ↔ WP 359 0 15 L (vI 0 :: S) h Q := wp_pl rfl rfl rfl
theorem s359_15 : WP 359 0 15 L [vI x] h Q ↔ Q (.inl (some (vI x))) h := wp_iret0 rfl rfl
/-! RepeatFreeLaw.power(LRepeatFree;IIIJ[J)I -/
theorem s360_0 : WP 360 0 0 [a0, a1, a2, a3, a4, a5, vA r, a7] S h Q ↔ WP 360 0 2 [a0, a1, a2, a3, a4, a5, vA r, a7] (vA r :: S) h Q := wp_aload rfl rfl
theorem s360_2 : WP 360 0 2 L S h Q ↔ WP 360 0 3 L (vI 0 :: S) h Q := wp_pl rfl rfl rfl
theorem s360_3 : WP 360 0 3 [vA r, a1, a2, a3, a4, a5, a6, a7] S h Q ↔ WP 360 0 4 [vA r, a1, a2, a3, a4, a5, a6, a7] (vA r :: S) h Q := wp_aload rfl rfl
theorem s360_4 : WP 360 0 4 [a0, vI x, a2, a3, a4, a5, a6, a7] S h Q ↔ WP 360 0 5 [a0, vI x, a2, a3, a4, a5, a6, a7] (vI x :: S) h Q := wp_iload rfl rfl
theorem s360_5 : WP 360 0 5 [a0, a1, vI x, a3, a4, a5, a6, a7] S h Q ↔ WP 360 0 6 [a0, a1, vI x, a3, a4, a5, a6, a7] (vI x :: S) h Q := wp_iload rfl rfl
theorem s360_6 : WP 360 0 6 [a0, a1, a2, vI x, a4, a5, a6, a7] S h Q ↔ WP 360 0 7 [a0, a1, a2, vI x, a4, a5, a6, a7] (vI x :: S) h Q := wp_iload rfl rfl
theorem s360_7 : WP 360 0 7 [a0, a1, a2, a3, vL x, vJ, a6, a7] S h Q ↔ WP 360 0 9 [a0, a1, a2, a3, vL x, vJ, a6, a7] (vL x :: S) h Q := wp_lload rfl rfl rfl
theorem s360_9 : WP 360 0 9 L (vL x3 :: vI x2 :: vI x1 :: vI x0 :: vA (some a) :: S) h Q ↔ ((hk h a).1 = 100 ∧ (zw S ≤ 8 ∧ WP 73 0 0 [vA (some a), vI x0, vI x1, vI x2, vL x3, vJ, vJ, vJ, vJ, vJ, vJ, vJ, vJ, vJ, vJ] [] h (zret 360 0 9 12 L S Q))) := wp_V1 (c := 100) rfl rfl (fun _ => rfl) rfl rfl (zcan_of rfl rfl) rfl rfl rfl
theorem s360_12 : WP 360 0 12 L (vI x :: S) h Q ↔ WP 360 0 13 L (vL x :: S) h Q := wp_pl rfl rfl rfl
theorem s360_13 : WP 360 0 13 L (vL y :: vI x :: vA (some a) :: S) h Q ↔ (((hk h a).1 = 4 ∧ (0 ≤ x ∧ x < ((hk h a).2 : Int)) ∧ zNC ≤ a) ∧ WP 360 0 14 L S (hput h a x.toNat (vL y)) Q) := wp_if rfl rfl rfl
theorem s360_14 : WP 360 0 14 L S h Q ↔ WP 360 0 25 L S h Q := wp_pl rfl rfl rfl
theorem s360_17 : WP 360 0 17 [a0, a1, a2, a3, a4, a5, a6, a7] (vA r :: S) h Q ↔ WP 360 0 19 [a0, a1, a2, a3, a4, a5, a6, vA r] S h Q := wp_astore rfl rfl rfl
theorem s360_19 : WP 360 0 19 L S h Q ↔ WP 360 0 20 L (vI 1 :: S) h Q := wp_pl rfl rfl rfl
theorem s360_20 : WP 360 0 20 L [vI x] h Q ↔ Q (.inl (some (vI x))) h := wp_iret0 rfl rfl
theorem s360_21 : WP 360 0 21 [a0, a1, a2, a3, a4, a5, a6, a7] (vA r :: S) h Q ↔ WP 360 0 23 [a0, a1, a2, a3, a4, a5, a6, vA r] S h Q := wp_astore rfl rfl rfl
theorem s360_23 : WP 360 0 23 L S h Q ↔ WP 360 0 24 L (vI 2 :: S) h Q := wp_pl rfl rfl rfl
theorem s360_24 : WP 360 0 24 L [vI x] h Q ↔ Q (.inl (some (vI x))) h := wp_iret0 rfl rfl
theorem s360_25 : WP 360 0 25 L S h Q ↔ WP 360 0 26 L (vI 0 :: S) h Q := wp_pl rfl rfl rfl
theorem s360_26 : WP 360 0 26 L [vI x] h Q ↔ Q (.inl (some (vI x))) h := wp_iret0 rfl rfl
/-! RepeatFreeLaw.push(LRepeatFree;I[J)I -/
theorem s361_0 : WP 361 0 0 [a0, a1, vA r, a3] S h Q ↔ WP 361 0 1 [a0, a1, vA r, a3] (vA r :: S) h Q := wp_aload rfl rfl
theorem s361_1 : WP 361 0 1 L S h Q ↔ WP 361 0 2 L (vI 0 :: S) h Q := wp_pl rfl rfl rfl
theorem s361_2 : WP 361 0 2 [vA r, a1, a2, a3] S h Q ↔ WP 361 0 3 [vA r, a1, a2, a3] (vA r :: S) h Q := wp_aload rfl rfl
theorem s361_3 : WP 361 0 3 [a0, vI x, a2, a3] S h Q ↔ WP 361 0 4 [a0, vI x, a2, a3] (vI x :: S) h Q := wp_iload rfl rfl
theorem s361_4 : WP 361 0 4 L (vI x0 :: vA (some a) :: S) h Q ↔ ((hk h a).1 = 100 ∧ (zw S ≤ 8 ∧ WP 74 0 0 [vA (some a), vI x0] [] h (zret 361 0 4 7 L S Q))) := wp_V1 (c := 100) rfl rfl (fun _ => rfl) rfl rfl (zcan_of rfl rfl) rfl rfl rfl
theorem s361_7 : WP 361 0 7 L (vI x :: S) h Q ↔ WP 361 0 8 L (vL x :: S) h Q := wp_pl rfl rfl rfl
theorem s361_8 : WP 361 0 8 L (vL y :: vI x :: vA (some a) :: S) h Q ↔ (((hk h a).1 = 4 ∧ (0 ≤ x ∧ x < ((hk h a).2 : Int)) ∧ zNC ≤ a) ∧ WP 361 0 9 L S (hput h a x.toNat (vL y)) Q) := wp_if rfl rfl rfl
theorem s361_9 : WP 361 0 9 L S h Q ↔ WP 361 0 18 L S h Q := wp_pl rfl rfl rfl
theorem s361_12 : WP 361 0 12 [a0, a1, a2, a3] (vA r :: S) h Q ↔ WP 361 0 13 [a0, a1, a2, vA r] S h Q := wp_astore rfl rfl rfl
theorem s361_13 : WP 361 0 13 L S h Q ↔ WP 361 0 14 L (vI 1 :: S) h Q := wp_pl rfl rfl rfl
theorem s361_14 : WP 361 0 14 L [vI x] h Q ↔ Q (.inl (some (vI x))) h := wp_iret0 rfl rfl
theorem s361_15 : WP 361 0 15 [a0, a1, a2, a3] (vA r :: S) h Q ↔ WP 361 0 16 [a0, a1, a2, vA r] S h Q := wp_astore rfl rfl rfl
theorem s361_16 : WP 361 0 16 L S h Q ↔ WP 361 0 17 L (vI 2 :: S) h Q := wp_pl rfl rfl rfl
theorem s361_17 : WP 361 0 17 L [vI x] h Q ↔ Q (.inl (some (vI x))) h := wp_iret0 rfl rfl
theorem s361_18 : WP 361 0 18 L S h Q ↔ WP 361 0 19 L (vI 0 :: S) h Q := wp_pl rfl rfl rfl
theorem s361_19 : WP 361 0 19 L [vI x] h Q ↔ Q (.inl (some (vI x))) h := wp_iret0 rfl rfl
/-! RepeatFreeLaw.rank(LRepeatFree;[J)I -/
theorem s362_0 : WP 362 0 0 [a0, vA r, a2] S h Q ↔ WP 362 0 1 [a0, vA r, a2] (vA r :: S) h Q := wp_aload rfl rfl
theorem s362_1 : WP 362 0 1 L S h Q ↔ WP 362 0 2 L (vI 0 :: S) h Q := wp_pl rfl rfl rfl
theorem s362_2 : WP 362 0 2 [vA r, a1, a2] S h Q ↔ WP 362 0 3 [vA r, a1, a2] (vA r :: S) h Q := wp_aload rfl rfl
theorem s362_3 : WP 362 0 3 L (vA (some a) :: S) h Q ↔ ((hk h a).1 = 100 ∧ (zw S ≤ 8 ∧ WP 75 0 0 [vA (some a), vJ, vJ, vJ] [] h (zret 362 0 3 6 L S Q))) := wp_V1 (c := 100) rfl rfl (fun _ => rfl) rfl rfl (zcan_of rfl rfl) rfl rfl rfl
theorem s362_6 : WP 362 0 6 L (vI x :: S) h Q ↔ WP 362 0 7 L (vL x :: S) h Q := wp_pl rfl rfl rfl
theorem s362_7 : WP 362 0 7 L (vL y :: vI x :: vA (some a) :: S) h Q ↔ (((hk h a).1 = 4 ∧ (0 ≤ x ∧ x < ((hk h a).2 : Int)) ∧ zNC ≤ a) ∧ WP 362 0 8 L S (hput h a x.toNat (vL y)) Q) := wp_if rfl rfl rfl
theorem s362_8 : WP 362 0 8 L S h Q ↔ WP 362 0 14 L S h Q := wp_pl rfl rfl rfl
theorem s362_11 : WP 362 0 11 [a0, a1, a2] (vA r :: S) h Q ↔ WP 362 0 12 [a0, a1, vA r] S h Q := wp_astore rfl rfl rfl
theorem s362_12 : WP 362 0 12 L S h Q ↔ WP 362 0 13 L (vI 1 :: S) h Q := wp_pl rfl rfl rfl
theorem s362_13 : WP 362 0 13 L [vI x] h Q ↔ Q (.inl (some (vI x))) h := wp_iret0 rfl rfl
theorem s362_14 : WP 362 0 14 L S h Q ↔ WP 362 0 15 L (vI 0 :: S) h Q := wp_pl rfl rfl rfl
theorem s362_15 : WP 362 0 15 L [vI x] h Q ↔ Q (.inl (some (vI x))) h := wp_iret0 rfl rfl
/-! RepeatFreeLaw.read(LRepeatFree;[J)I -/
theorem s363_0 : WP 363 0 0 [a0, vA r, a2] S h Q ↔ WP 363 0 1 [a0, vA r, a2] (vA r :: S) h Q := wp_aload rfl rfl
theorem s363_1 : WP 363 0 1 L S h Q ↔ WP 363 0 2 L (vI 0 :: S) h Q := wp_pl rfl rfl rfl
theorem s363_2 : WP 363 0 2 [vA r, a1, a2] S h Q ↔ WP 363 0 3 [vA r, a1, a2] (vA r :: S) h Q := wp_aload rfl rfl
theorem s363_3 : WP 363 0 3 L (vA (some a) :: S) h Q ↔ ((hk h a).1 = 100 ∧ (zw S ≤ 8 ∧ WP 76 0 0 [vA (some a), vJ, vJ] [] h (zret 363 0 3 6 L S Q))) := wp_V1 (c := 100) rfl rfl (fun _ => rfl) rfl rfl (zcan_of rfl rfl) rfl rfl rfl
theorem s363_6 : WP 363 0 6 L (vI x :: S) h Q ↔ WP 363 0 7 L (vL x :: S) h Q := wp_pl rfl rfl rfl
theorem s363_7 : WP 363 0 7 L (vL y :: vI x :: vA (some a) :: S) h Q ↔ (((hk h a).1 = 4 ∧ (0 ≤ x ∧ x < ((hk h a).2 : Int)) ∧ zNC ≤ a) ∧ WP 363 0 8 L S (hput h a x.toNat (vL y)) Q) := wp_if rfl rfl rfl
theorem s363_8 : WP 363 0 8 L S h Q ↔ WP 363 0 14 L S h Q := wp_pl rfl rfl rfl
theorem s363_11 : WP 363 0 11 [a0, a1, a2] (vA r :: S) h Q ↔ WP 363 0 12 [a0, a1, vA r] S h Q := wp_astore rfl rfl rfl
theorem s363_12 : WP 363 0 12 L S h Q ↔ WP 363 0 13 L (vI 1 :: S) h Q := wp_pl rfl rfl rfl
theorem s363_13 : WP 363 0 13 L [vI x] h Q ↔ Q (.inl (some (vI x))) h := wp_iret0 rfl rfl
theorem s363_14 : WP 363 0 14 L S h Q ↔ WP 363 0 15 L (vI 0 :: S) h Q := wp_pl rfl rfl rfl
theorem s363_15 : WP 363 0 15 L [vI x] h Q ↔ Q (.inl (some (vI x))) h := wp_iret0 rfl rfl
/-! RepeatFreeLaw.run(LRepeatFree;II[J)I -/
theorem s364_0 : WP 364 0 0 [a0, a1, a2, vA r, a4] S h Q ↔ WP 364 0 1 [a0, a1, a2, vA r, a4] (vA r :: S) h Q := wp_aload rfl rfl
theorem s364_1 : WP 364 0 1 L S h Q ↔ WP 364 0 2 L (vI 0 :: S) h Q := wp_pl rfl rfl rfl
theorem s364_2 : WP 364 0 2 [vA r, a1, a2, a3, a4] S h Q ↔ WP 364 0 3 [vA r, a1, a2, a3, a4] (vA r :: S) h Q := wp_aload rfl rfl
theorem s364_3 : WP 364 0 3 [a0, vI x, a2, a3, a4] S h Q ↔ WP 364 0 4 [a0, vI x, a2, a3, a4] (vI x :: S) h Q := wp_iload rfl rfl
theorem s364_4 : WP 364 0 4 [a0, a1, vI x, a3, a4] S h Q ↔ WP 364 0 5 [a0, a1, vI x, a3, a4] (vI x :: S) h Q := wp_iload rfl rfl
theorem s364_5 : WP 364 0 5 L (vI x1 :: vI x0 :: vA (some a) :: S) h Q ↔ ((hk h a).1 = 100 ∧ (zw S ≤ 8 ∧ WP 78 0 0 [vA (some a), vI x0, vI x1, vJ, vJ] [] h (zret 364 0 5 8 L S Q))) := wp_V1 (c := 100) rfl rfl (fun _ => rfl) rfl rfl (zcan_of rfl rfl) rfl rfl rfl
theorem s364_8 : WP 364 0 8 L (vI x :: S) h Q ↔ WP 364 0 9 L (vL x :: S) h Q := wp_pl rfl rfl rfl
theorem s364_9 : WP 364 0 9 L (vL y :: vI x :: vA (some a) :: S) h Q ↔ (((hk h a).1 = 4 ∧ (0 ≤ x ∧ x < ((hk h a).2 : Int)) ∧ zNC ≤ a) ∧ WP 364 0 10 L S (hput h a x.toNat (vL y)) Q) := wp_if rfl rfl rfl
theorem s364_10 : WP 364 0 10 L S h Q ↔ WP 364 0 17 L S h Q := wp_pl rfl rfl rfl
theorem s364_13 : WP 364 0 13 [a0, a1, a2, a3, a4] (vA r :: S) h Q ↔ WP 364 0 15 [a0, a1, a2, a3, vA r] S h Q := wp_astore rfl rfl rfl
theorem s364_15 : WP 364 0 15 L S h Q ↔ WP 364 0 16 L (vI 1 :: S) h Q := wp_pl rfl rfl rfl
theorem s364_16 : WP 364 0 16 L [vI x] h Q ↔ Q (.inl (some (vI x))) h := wp_iret0 rfl rfl
theorem s364_17 : WP 364 0 17 L S h Q ↔ WP 364 0 18 L (vI 0 :: S) h Q := wp_pl rfl rfl rfl
theorem s364_18 : WP 364 0 18 L [vI x] h Q ↔ Q (.inl (some (vI x))) h := wp_iret0 rfl rfl
/-! RepeatFreeLaw.sources(LRepeatFree;I[J)I -/
theorem s365_0 : WP 365 0 0 [a0, a1, vA r, a3] S h Q ↔ WP 365 0 1 [a0, a1, vA r, a3] (vA r :: S) h Q := wp_aload rfl rfl
theorem s365_1 : WP 365 0 1 L S h Q ↔ WP 365 0 2 L (vI 0 :: S) h Q := wp_pl rfl rfl rfl
theorem s365_2 : WP 365 0 2 [vA r, a1, a2, a3] S h Q ↔ WP 365 0 3 [vA r, a1, a2, a3] (vA r :: S) h Q := wp_aload rfl rfl
theorem s365_3 : WP 365 0 3 [a0, vI x, a2, a3] S h Q ↔ WP 365 0 4 [a0, vI x, a2, a3] (vI x :: S) h Q := wp_iload rfl rfl
theorem s365_4 : WP 365 0 4 L (vI x0 :: vA (some a) :: S) h Q ↔ ((hk h a).1 = 100 ∧ (zw S ≤ 8 ∧ WP 80 0 0 [vA (some a), vI x0, vJ, vJ, vJ, vJ] [] h (zret 365 0 4 7 L S Q))) := wp_V1 (c := 100) rfl rfl (fun _ => rfl) rfl rfl (zcan_of rfl rfl) rfl rfl rfl
theorem s365_7 : WP 365 0 7 L (vL y :: vI x :: vA (some a) :: S) h Q ↔ (((hk h a).1 = 4 ∧ (0 ≤ x ∧ x < ((hk h a).2 : Int)) ∧ zNC ≤ a) ∧ WP 365 0 8 L S (hput h a x.toNat (vL y)) Q) := wp_if rfl rfl rfl
theorem s365_8 : WP 365 0 8 L S h Q ↔ WP 365 0 14 L S h Q := wp_pl rfl rfl rfl
theorem s365_11 : WP 365 0 11 [a0, a1, a2, a3] (vA r :: S) h Q ↔ WP 365 0 12 [a0, a1, a2, vA r] S h Q := wp_astore rfl rfl rfl
theorem s365_12 : WP 365 0 12 L S h Q ↔ WP 365 0 13 L (vI 1 :: S) h Q := wp_pl rfl rfl rfl
theorem s365_13 : WP 365 0 13 L [vI x] h Q ↔ Q (.inl (some (vI x))) h := wp_iret0 rfl rfl
theorem s365_14 : WP 365 0 14 L S h Q ↔ WP 365 0 15 L (vI 0 :: S) h Q := wp_pl rfl rfl rfl
theorem s365_15 : WP 365 0 15 L [vI x] h Q ↔ Q (.inl (some (vI x))) h := wp_iret0 rfl rfl
/-! RepeatFreeLaw.stuck(LRepeatFree;I[J)I -/
theorem s366_0 : WP 366 0 0 [a0, a1, vA r, a3] S h Q ↔ WP 366 0 1 [a0, a1, vA r, a3] (vA r :: S) h Q := wp_aload rfl rfl
theorem s366_1 : WP 366 0 1 L S h Q ↔ WP 366 0 2 L (vI 0 :: S) h Q := wp_pl rfl rfl rfl
theorem s366_2 : WP 366 0 2 [vA r, a1, a2, a3] S h Q ↔ WP 366 0 3 [vA r, a1, a2, a3] (vA r :: S) h Q := wp_aload rfl rfl
theorem s366_3 : WP 366 0 3 [a0, vI x, a2, a3] S h Q ↔ WP 366 0 4 [a0, vI x, a2, a3] (vI x :: S) h Q := wp_iload rfl rfl
theorem s366_4 : WP 366 0 4 L (vI x0 :: vA (some a) :: S) h Q ↔ ((hk h a).1 = 100 ∧ (zw S ≤ 8 ∧ WP 82 0 0 [vA (some a), vI x0, vJ, vJ, vJ] [] h (zret 366 0 4 7 L S Q))) := wp_V1 (c := 100) rfl rfl (fun _ => rfl) rfl rfl (zcan_of rfl rfl) rfl rfl rfl
theorem s366_7 : WP 366 0 7 L (vI x :: S) h Q ↔ WP 366 0 8 L (vL x :: S) h Q := wp_pl rfl rfl rfl
theorem s366_8 : WP 366 0 8 L (vL y :: vI x :: vA (some a) :: S) h Q ↔ (((hk h a).1 = 4 ∧ (0 ≤ x ∧ x < ((hk h a).2 : Int)) ∧ zNC ≤ a) ∧ WP 366 0 9 L S (hput h a x.toNat (vL y)) Q) := wp_if rfl rfl rfl
theorem s366_9 : WP 366 0 9 L S h Q ↔ WP 366 0 15 L S h Q := wp_pl rfl rfl rfl
theorem s366_12 : WP 366 0 12 [a0, a1, a2, a3] (vA r :: S) h Q ↔ WP 366 0 13 [a0, a1, a2, vA r] S h Q := wp_astore rfl rfl rfl
theorem s366_13 : WP 366 0 13 L S h Q ↔ WP 366 0 14 L (vI 1 :: S) h Q := wp_pl rfl rfl rfl
theorem s366_14 : WP 366 0 14 L [vI x] h Q ↔ Q (.inl (some (vI x))) h := wp_iret0 rfl rfl
theorem s366_15 : WP 366 0 15 L S h Q ↔ WP 366 0 16 L (vI 0 :: S) h Q := wp_pl rfl rfl rfl
theorem s366_16 : WP 366 0 16 L [vI x] h Q ↔ Q (.inl (some (vI x))) h := wp_iret0 rfl rfl
/-! RepeatFreeLaw.uniform(LRepeatFree;I[J)I -/
theorem s367_0 : WP 367 0 0 [a0, a1, vA r, a3] S h Q ↔ WP 367 0 1 [a0, a1, vA r, a3] (vA r :: S) h Q := wp_aload rfl rfl
theorem s367_1 : WP 367 0 1 L S h Q ↔ WP 367 0 2 L (vI 0 :: S) h Q := wp_pl rfl rfl rfl
theorem s367_2 : WP 367 0 2 [vA r, a1, a2, a3] S h Q ↔ WP 367 0 3 [vA r, a1, a2, a3] (vA r :: S) h Q := wp_aload rfl rfl
theorem s367_3 : WP 367 0 3 [a0, vI x, a2, a3] S h Q ↔ WP 367 0 4 [a0, vI x, a2, a3] (vI x :: S) h Q := wp_iload rfl rfl
theorem s367_4 : WP 367 0 4 L (vI x0 :: vA (some a) :: S) h Q ↔ ((hk h a).1 = 100 ∧ (zw S ≤ 8 ∧ WP 89 0 0 [vA (some a), vI x0, vJ, vJ] [] h (zret 367 0 4 7 L S Q))) := wp_V1 (c := 100) rfl rfl (fun _ => rfl) rfl rfl (zcan_of rfl rfl) rfl rfl rfl
theorem s367_7 : WP 367 0 7 L (vI x :: S) h Q ↔ WP 367 0 8 L (vL x :: S) h Q := wp_pl rfl rfl rfl
theorem s367_8 : WP 367 0 8 L (vL y :: vI x :: vA (some a) :: S) h Q ↔ (((hk h a).1 = 4 ∧ (0 ≤ x ∧ x < ((hk h a).2 : Int)) ∧ zNC ≤ a) ∧ WP 367 0 9 L S (hput h a x.toNat (vL y)) Q) := wp_if rfl rfl rfl
theorem s367_9 : WP 367 0 9 L S h Q ↔ WP 367 0 15 L S h Q := wp_pl rfl rfl rfl
theorem s367_12 : WP 367 0 12 [a0, a1, a2, a3] (vA r :: S) h Q ↔ WP 367 0 13 [a0, a1, a2, vA r] S h Q := wp_astore rfl rfl rfl
theorem s367_13 : WP 367 0 13 L S h Q ↔ WP 367 0 14 L (vI 1 :: S) h Q := wp_pl rfl rfl rfl
theorem s367_14 : WP 367 0 14 L [vI x] h Q ↔ Q (.inl (some (vI x))) h := wp_iret0 rfl rfl
theorem s367_15 : WP 367 0 15 L S h Q ↔ WP 367 0 16 L (vI 0 :: S) h Q := wp_pl rfl rfl rfl
theorem s367_16 : WP 367 0 16 L [vI x] h Q ↔ Q (.inl (some (vI x))) h := wp_iret0 rfl rfl
/-! RepeatFreeLaw.whole(LRepeatFree;III[J)I -/
theorem s368_0 : WP 368 0 0 [a0, a1, a2, a3, vA r, a5] S h Q ↔ WP 368 0 2 [a0, a1, a2, a3, vA r, a5] (vA r :: S) h Q := wp_aload rfl rfl
theorem s368_2 : WP 368 0 2 L S h Q ↔ WP 368 0 3 L (vI 0 :: S) h Q := wp_pl rfl rfl rfl
theorem s368_3 : WP 368 0 3 [vA r, a1, a2, a3, a4, a5] S h Q ↔ WP 368 0 4 [vA r, a1, a2, a3, a4, a5] (vA r :: S) h Q := wp_aload rfl rfl
theorem s368_4 : WP 368 0 4 [a0, vI x, a2, a3, a4, a5] S h Q ↔ WP 368 0 5 [a0, vI x, a2, a3, a4, a5] (vI x :: S) h Q := wp_iload rfl rfl
theorem s368_5 : WP 368 0 5 [a0, a1, vI x, a3, a4, a5] S h Q ↔ WP 368 0 6 [a0, a1, vI x, a3, a4, a5] (vI x :: S) h Q := wp_iload rfl rfl
theorem s368_6 : WP 368 0 6 [a0, a1, a2, vI x, a4, a5] S h Q ↔ WP 368 0 7 [a0, a1, a2, vI x, a4, a5] (vI x :: S) h Q := wp_iload rfl rfl
theorem s368_7 : WP 368 0 7 L (vI x2 :: vI x1 :: vI x0 :: vA (some a) :: S) h Q ↔ ((hk h a).1 = 100 ∧ (zw S ≤ 8 ∧ WP 90 0 0 [vA (some a), vI x0, vI x1, vI x2, vJ, vJ, vJ, vJ, vJ] [] h (zret 368 0 7 10 L S Q))) := wp_V1 (c := 100) rfl rfl (fun _ => rfl) rfl rfl (zcan_of rfl rfl) rfl rfl rfl
theorem s368_10 : WP 368 0 10 L (vI x :: S) h Q ↔ WP 368 0 11 L (vL x :: S) h Q := wp_pl rfl rfl rfl
theorem s368_11 : WP 368 0 11 L (vL y :: vI x :: vA (some a) :: S) h Q ↔ (((hk h a).1 = 4 ∧ (0 ≤ x ∧ x < ((hk h a).2 : Int)) ∧ zNC ≤ a) ∧ WP 368 0 12 L S (hput h a x.toNat (vL y)) Q) := wp_if rfl rfl rfl
theorem s368_12 : WP 368 0 12 L S h Q ↔ WP 368 0 23 L S h Q := wp_pl rfl rfl rfl
theorem s368_15 : WP 368 0 15 [a0, a1, a2, a3, a4, a5] (vA r :: S) h Q ↔ WP 368 0 17 [a0, a1, a2, a3, a4, vA r] S h Q := wp_astore rfl rfl rfl
theorem s368_17 : WP 368 0 17 L S h Q ↔ WP 368 0 18 L (vI 1 :: S) h Q := wp_pl rfl rfl rfl
theorem s368_18 : WP 368 0 18 L [vI x] h Q ↔ Q (.inl (some (vI x))) h := wp_iret0 rfl rfl
theorem s368_19 : WP 368 0 19 [a0, a1, a2, a3, a4, a5] (vA r :: S) h Q ↔ WP 368 0 21 [a0, a1, a2, a3, a4, vA r] S h Q := wp_astore rfl rfl rfl
theorem s368_21 : WP 368 0 21 L S h Q ↔ WP 368 0 22 L (vI 2 :: S) h Q := wp_pl rfl rfl rfl
theorem s368_22 : WP 368 0 22 L [vI x] h Q ↔ Q (.inl (some (vI x))) h := wp_iret0 rfl rfl
theorem s368_23 : WP 368 0 23 L S h Q ↔ WP 368 0 24 L (vI 0 :: S) h Q := wp_pl rfl rfl rfl
theorem s368_24 : WP 368 0 24 L [vI x] h Q ↔ Q (.inl (some (vI x))) h := wp_iret0 rfl rfl
/-! RepeatFreeLaw.word(LRepeatFree;[J)I -/
theorem s369_0 : WP 369 0 0 [a0, vA r, a2] S h Q ↔ WP 369 0 1 [a0, vA r, a2] (vA r :: S) h Q := wp_aload rfl rfl
theorem s369_1 : WP 369 0 1 L S h Q ↔ WP 369 0 2 L (vI 0 :: S) h Q := wp_pl rfl rfl rfl
theorem s369_2 : WP 369 0 2 [vA r, a1, a2] S h Q ↔ WP 369 0 3 [vA r, a1, a2] (vA r :: S) h Q := wp_aload rfl rfl
theorem s369_3 : WP 369 0 3 L (vA (some a) :: S) h Q ↔ ((hk h a).1 = 100 ∧ (zw S ≤ 8 ∧ WP 92 0 0 [vA (some a), vJ, vJ, vJ] [] h (zret 369 0 3 6 L S Q))) := wp_V1 (c := 100) rfl rfl (fun _ => rfl) rfl rfl (zcan_of rfl rfl) rfl rfl rfl
theorem s369_6 : WP 369 0 6 L (vI x :: S) h Q ↔ WP 369 0 7 L (vL x :: S) h Q := wp_pl rfl rfl rfl
theorem s369_7 : WP 369 0 7 L (vL y :: vI x :: vA (some a) :: S) h Q ↔ (((hk h a).1 = 4 ∧ (0 ≤ x ∧ x < ((hk h a).2 : Int)) ∧ zNC ≤ a) ∧ WP 369 0 8 L S (hput h a x.toNat (vL y)) Q) := wp_if rfl rfl rfl
theorem s369_8 : WP 369 0 8 L S h Q ↔ WP 369 0 14 L S h Q := wp_pl rfl rfl rfl
theorem s369_11 : WP 369 0 11 [a0, a1, a2] (vA r :: S) h Q ↔ WP 369 0 12 [a0, a1, vA r] S h Q := wp_astore rfl rfl rfl
theorem s369_12 : WP 369 0 12 L S h Q ↔ WP 369 0 13 L (vI 1 :: S) h Q := wp_pl rfl rfl rfl
theorem s369_13 : WP 369 0 13 L [vI x] h Q ↔ Q (.inl (some (vI x))) h := wp_iret0 rfl rfl
theorem s369_14 : WP 369 0 14 L S h Q ↔ WP 369 0 15 L (vI 0 :: S) h Q := wp_pl rfl rfl rfl
theorem s369_15 : WP 369 0 15 L [vI x] h Q ↔ Q (.inl (some (vI x))) h := wp_iret0 rfl rfl
end
