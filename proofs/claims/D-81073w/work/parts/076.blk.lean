/-! BLOCKS (printed by gen/lem.py) -/
set_option maxRecDepth 100000
/-- EarthOffice$Book add block at 0 -/
theorem t360_0 {M : Mem} {Q : AR → Mem → Prop} : Tq 360 0 [vR 6 0, vJ] [] M Q ↔ (((0 : Int) ≤ M 6 0 1 ∧ M 6 0 1 < 24) ∧ Tq 367 0 [vR 7 (M 6 0 1)] [] M (kV fun M1 => bd (mset M1 6 0 1 (w32 (M1 6 0 1 + 1))) fun M2 => Q (.inl (some (vR 7 (M 6 0 1)))) M2)) :=
  Tq_blk (is := bk_360_0) (dd := de_360) rfl rfl
/-- EarthOffice$Book version block at 0 -/
theorem t361_0_1014 {x1 x3 : Int} {M : Mem} {Q : AR → Mem → Prop} : Tq 361 0 [vR 6 0, vR 7 x1, vR 1014 0, vI x3] [] M Q ↔ (((0 : Int) ≤ 0 ∧ (0 : Int) ≤ w32 (8 * (M 7 x1 1)) ∧ (0 : Int) ≤ 7 ∧ (0 : Int) + 7 ≤ 8 ∧ w32 (8 * (M 7 x1 1)) + 7 ≤ 128) ∧ bd (mcpy M 1014 0 0 7000 x1 (w32 (8 * (M 7 x1 1))) 7) fun M1 => ((0 : Int) ≤ w32 (w32 (8 * (M1 7 x1 1)) + 7) ∧ w32 (w32 (8 * (M1 7 x1 1)) + 7) < 128) ∧ bd (mset M1 7000 x1 (w32 (w32 (8 * (M1 7 x1 1)) + 7)) x3) fun M2 => bd (mset M2 7 x1 1 (w32 (M2 7 x1 1 + 1))) fun M3 => bd (mset M3 6 0 2 (w64 (M3 6 0 2 + 1))) fun M4 => bd (mset M4 7 x1 5 (M4 6 0 2)) fun M5 => Q (.inl none) M5) :=
  Tq_blk (is := bk_361_0) (dd := de_361) rfl rfl
/-- EarthOffice$Book version block at 0 -/
theorem t361_0_4009 {x1 x3 : Int} {M : Mem} {Q : AR → Mem → Prop} : Tq 361 0 [vR 6 0, vR 7 x1, vR 4009 0, vI x3] [] M Q ↔ (((0 : Int) ≤ 0 ∧ (0 : Int) ≤ w32 (8 * (M 7 x1 1)) ∧ (0 : Int) ≤ 7 ∧ (0 : Int) + 7 ≤ 8 ∧ w32 (8 * (M 7 x1 1)) + 7 ≤ 128) ∧ bd (mcpy M 4009 0 0 7000 x1 (w32 (8 * (M 7 x1 1))) 7) fun M1 => ((0 : Int) ≤ w32 (w32 (8 * (M1 7 x1 1)) + 7) ∧ w32 (w32 (8 * (M1 7 x1 1)) + 7) < 128) ∧ bd (mset M1 7000 x1 (w32 (w32 (8 * (M1 7 x1 1)) + 7)) x3) fun M2 => bd (mset M2 7 x1 1 (w32 (M2 7 x1 1 + 1))) fun M3 => bd (mset M3 6 0 2 (w64 (M3 6 0 2 + 1))) fun M4 => bd (mset M4 7 x1 5 (M4 6 0 2)) fun M5 => Q (.inl none) M5) :=
  Tq_blk (is := bk_361_0) (dd := de_361) rfl rfl
/-- EarthOffice$Book has block at 0 -/
theorem t362_0 {x1 : Int} {M : Mem} {Q : AR → Mem → Prop} : Tq 362 0 [vR 6 0, vI x1] [] M Q ↔ (Tq 25 0 [vI x1, vI 0, vI (w32 (M 6 0 1 - 1))] [] M (kI fun v1 M1 => Q (.inl (some (vI (nb v1)))) M1)) :=
  Tq_blk (is := bk_362_0) (dd := de_362) rfl rfl
/-- EarthOffice$Book merge block at 0 -/
theorem t363_0 {x1 x2 : Int} {M : Mem} {Q : AR → Mem → Prop} : Tq 363 0 [vR 6 0, vI x1, vI x2, vJ, vJ, vJ] [] M Q ↔ (((0 : Int) ≤ x1 ∧ x1 < 24) ∧ ((0 : Int) ≤ x2 ∧ x2 < 24) ∧ Tq 363 1 [vJ, vI x1, vJ, vR 7 x1, vR 7 x2, vI 0] [] M Q) :=
  Tq_blk (is := bk_363_0) (dd := de_363) rfl rfl
/-- EarthOffice$Book merge block at 18 -/
theorem t363_1 {x1 x3 x4 x5 : Int} {M : Mem} {Q : AR → Mem → Prop} : Tq 363 1 [vJ, vI x1, vJ, vR 7 x3, vR 7 x4, vI x5] [] M Q ↔ (if M 7 x4 3 ≤ x5 then Tq 363 3 [vJ, vI x1, vJ, vJ, vR 7 x4, vJ] [] M Q else Tq 371 0 [vR 7 x4, vI x5, vI 0] [] M (kI fun v1 M1 => Tq 371 0 [vR 7 x4, vI x5, vI 2] [] M1 (kI fun v2 M2 => Tq 372 0 [vR 7 x3, vI v1, vI v2, vJ, vJ] [] M2 (kI fun v3 M3 => if ¬ v3 = 0 then Tq 363 2 [vJ, vI x1, vJ, vR 7 x3, vR 7 x4, vI x5] [] M3 Q else Tq 371 0 [vR 7 x4, vI x5, vI 0] [] M3 (kI fun v4 M4 => Tq 371 0 [vR 7 x4, vI x5, vI 1] [] M4 (kI fun v5 M5 => Tq 371 0 [vR 7 x4, vI x5, vI 2] [] M5 (kI fun v6 M6 => Tq 371 0 [vR 7 x4, vI x5, vI 3] [] M6 (kI fun v7 M7 => Tq 371 0 [vR 7 x4, vI x5, vI 4] [] M7 (kI fun v8 M8 => Tq 368 0 [vR 7 x3, vI v4, vI v5, vI v6, vI v7, vI v8, vJ] [] M8 (kV fun M9 => Tq 363 2 [vJ, vI x1, vJ, vR 7 x3, vR 7 x4, vI x5] [] M9 Q)))))))))) :=
  Tq_blk (is := bk_363_1) (dd := de_363) rfl rfl
/-- EarthOffice$Book merge block at 95 -/
theorem t363_2 {x1 x3 x4 x5 : Int} {M : Mem} {Q : AR → Mem → Prop} : Tq 363 2 [vJ, vI x1, vJ, vR 7 x3, vR 7 x4, vI x5] [] M Q ↔ (Tq 363 1 [vJ, vI x1, vJ, vR 7 x3, vR 7 x4, vI (w32 (x5 + 1))] [] M Q) :=
  Tq_blk (is := bk_363_2) (dd := de_363) rfl rfl
/-- EarthOffice$Book merge block at 101 -/
theorem t363_3 {x1 x4 : Int} {M : Mem} {Q : AR → Mem → Prop} : Tq 363 3 [vJ, vI x1, vJ, vJ, vR 7 x4, vJ] [] M Q ↔ (bd (mset M 7 x4 4 x1) fun M1 => Q (.inl none) M1) :=
  Tq_blk (is := bk_363_3) (dd := de_363) rfl rfl
/-- EarthOffice$Book newest block at 0 -/
theorem t364_0 {M : Mem} {Q : AR → Mem → Prop} : Tq 364 0 [vR 6 0, vJ, vJ] [] M Q ↔ (Tq 364 1 [vR 6 0, vI (-99999999), vI 0] [] M Q) :=
  Tq_blk (is := bk_364_0) (dd := de_364) rfl rfl
/-- EarthOffice$Book newest block at 5 -/
theorem t364_1 {x1 x2 : Int} {M : Mem} {Q : AR → Mem → Prop} : Tq 364 1 [vR 6 0, vI x1, vI x2] [] M Q ↔ (if M 6 0 1 ≤ x2 then Tq 364 4 [vJ, vI x1, vJ] [] M Q else ((0 : Int) ≤ x2 ∧ x2 < 24) ∧ if ¬ M 7 x2 4 = (-99999999) then Tq 364 3 [vR 6 0, vI x1, vI x2] [] M Q else if x1 = (-99999999) then Tq 364 2 [vR 6 0, vJ, vI x2] [] M Q else ((0 : Int) ≤ x2 ∧ x2 < 24) ∧ ((0 : Int) ≤ x1 ∧ x1 < 24) ∧ if cmp64 (M 7 x2 5) (M 7 x1 5) ≤ 0 then Tq 364 3 [vR 6 0, vI x1, vI x2] [] M Q else Tq 364 2 [vR 6 0, vJ, vI x2] [] M Q) :=
  Tq_blk (is := bk_364_1) (dd := de_364) rfl rfl
/-- EarthOffice$Book newest block at 55 -/
theorem t364_2 {x2 : Int} {M : Mem} {Q : AR → Mem → Prop} : Tq 364 2 [vR 6 0, vJ, vI x2] [] M Q ↔ (Tq 364 3 [vR 6 0, vI x2, vI x2] [] M Q) :=
  Tq_blk (is := bk_364_2) (dd := de_364) rfl rfl
/-- EarthOffice$Book newest block at 57 -/
theorem t364_3 {x1 x2 : Int} {M : Mem} {Q : AR → Mem → Prop} : Tq 364 3 [vR 6 0, vI x1, vI x2] [] M Q ↔ (Tq 364 1 [vR 6 0, vI x1, vI (w32 (x2 + 1))] [] M Q) :=
  Tq_blk (is := bk_364_3) (dd := de_364) rfl rfl
/-- EarthOffice$Book newest block at 63 -/
theorem t364_4 {x1 : Int} {M : Mem} {Q : AR → Mem → Prop} : Tq 364 4 [vJ, vI x1, vJ] [] M Q ↔ (Q (.inl (some (vI x1))) M) :=
  Tq_blk (is := bk_364_4) (dd := de_364) rfl rfl
/-- EarthOffice$Book counted block at 0 -/
theorem t365_0 {x1 x2 : Int} {M : Mem} {Q : AR → Mem → Prop} : Tq 365 0 [vR 6 0, vI x1, vI x2, vJ, vJ] [] M Q ↔ (Tq 365 1 [vR 6 0, vI x1, vI x2, vI 0, vI 0] [] M Q) :=
  Tq_blk (is := bk_365_0) (dd := de_365) rfl rfl
/-- EarthOffice$Book counted block at 5 -/
theorem t365_1 {x1 x2 x3 x4 : Int} {M : Mem} {Q : AR → Mem → Prop} : Tq 365 1 [vR 6 0, vI x1, vI x2, vI x3, vI x4] [] M Q ↔ (if M 6 0 1 ≤ x4 then Tq 365 4 [vJ, vJ, vJ, vI x3, vJ] [] M Q else ((0 : Int) ≤ x4 ∧ x4 < 24) ∧ if ¬ M 7 x4 4 = (-99999999) then Tq 365 2 [vR 6 0, vI x1, vI x2, vJ, vI x4] [vI x3] M Q else ((0 : Int) ≤ x4 ∧ x4 < 24) ∧ Tq 370 0 [vR 7 x4, vI 0, vI 7] [] M (kI fun v1 M1 => if x1 ≤ w32 (x2 - v1) then Tq 365 2 [vR 6 0, vI x1, vI x2, vJ, vI x4] [vI x3] M1 Q else Tq 365 3 [vR 6 0, vI x1, vI x2, vJ, vI x4] [vI 1, vI x3] M1 Q)) :=
  Tq_blk (is := bk_365_1) (dd := de_365) rfl rfl
/-- EarthOffice$Book counted block at 53 -/
theorem t365_2 {x1 x2 x4 s0 : Int} {M : Mem} {Q : AR → Mem → Prop} : Tq 365 2 [vR 6 0, vI x1, vI x2, vJ, vI x4] [vI s0] M Q ↔ (Tq 365 3 [vR 6 0, vI x1, vI x2, vJ, vI x4] [vI 0, vI s0] M Q) :=
  Tq_blk (is := bk_365_2) (dd := de_365) rfl rfl
/-- EarthOffice$Book counted block at 54 -/
theorem t365_3 {x1 x2 x4 s0 s1 : Int} {M : Mem} {Q : AR → Mem → Prop} : Tq 365 3 [vR 6 0, vI x1, vI x2, vJ, vI x4] [vI s0, vI s1] M Q ↔ (Tq 365 1 [vR 6 0, vI x1, vI x2, vI (w32 (s1 + s0)), vI (w32 (x4 + 1))] [] M Q) :=
  Tq_blk (is := bk_365_3) (dd := de_365) rfl rfl
/-- EarthOffice$Book counted block at 62 -/
theorem t365_4 {x3 : Int} {M : Mem} {Q : AR → Mem → Prop} : Tq 365 4 [vJ, vJ, vJ, vI x3, vJ] [] M Q ↔ (Q (.inl (some (vI x3))) M) :=
  Tq_blk (is := bk_365_4) (dd := de_365) rfl rfl
/-- EarthOffice$Book clear block at 0 -/
theorem t366_0 {M : Mem} {Q : AR → Mem → Prop} : Tq 366 0 [vR 6 0] [] M Q ↔ (bd (mset M 6 0 1 0) fun M1 => bd (mset M1 6 0 2 0) fun M2 => Q (.inl none) M2) :=
  Tq_blk (is := bk_366_0) (dd := de_366) rfl rfl
/-- EarthOffice$Event begin block at 0 -/
theorem t367_0 {x0 : Int} {M : Mem} {Q : AR → Mem → Prop} : Tq 367 0 [vR 7 x0] [] M Q ↔ (bd (mset M 7 x0 1 0) fun M1 => bd (mset M1 7 x0 3 0) fun M2 => bd (mset M2 7 x0 4 (-99999999)) fun M3 => Q (.inl none) M3) :=
  Tq_blk (is := bk_367_0) (dd := de_367) rfl rfl
/-- EarthOffice$Event arrive block at 0 -/
theorem t368_0 {x0 x1 x2 x3 x4 x5 : Int} {M : Mem} {Q : AR → Mem → Prop} : Tq 368 0 [vR 7 x0, vI x1, vI x2, vI x3, vI x4, vI x5, vJ] [] M Q ↔ (((0 : Int) ≤ w32 (5 * (M 7 x0 3)) ∧ w32 (5 * (M 7 x0 3)) < 120) ∧ bd (mset M 7002 x0 (w32 (5 * (M 7 x0 3))) x1) fun M1 => ((0 : Int) ≤ w32 (w32 (5 * (M 7 x0 3)) + 1) ∧ w32 (w32 (5 * (M 7 x0 3)) + 1) < 120) ∧ bd (mset M1 7002 x0 (w32 (w32 (5 * (M 7 x0 3)) + 1)) x2) fun M2 => ((0 : Int) ≤ w32 (w32 (5 * (M 7 x0 3)) + 2) ∧ w32 (w32 (5 * (M 7 x0 3)) + 2) < 120) ∧ bd (mset M2 7002 x0 (w32 (w32 (5 * (M 7 x0 3)) + 2)) x3) fun M3 => ((0 : Int) ≤ w32 (w32 (5 * (M 7 x0 3)) + 3) ∧ w32 (w32 (5 * (M 7 x0 3)) + 3) < 120) ∧ bd (mset M3 7002 x0 (w32 (w32 (5 * (M 7 x0 3)) + 3)) x4) fun M4 => ((0 : Int) ≤ w32 (w32 (5 * (M 7 x0 3)) + 4) ∧ w32 (w32 (5 * (M 7 x0 3)) + 4) < 120) ∧ bd (mset M4 7002 x0 (w32 (w32 (5 * (M 7 x0 3)) + 4)) x5) fun M5 => bd (mset M5 7 x0 3 (w32 (M5 7 x0 3 + 1))) fun M6 => Q (.inl none) M6) :=
  Tq_blk (is := bk_368_0) (dd := de_368) rfl rfl
/-- EarthOffice$Event latest block at 0 -/
theorem t369_0 {x0 x1 : Int} {M : Mem} {Q : AR → Mem → Prop} : Tq 369 0 [vR 7 x0, vI x1] [] M Q ↔ (Tq 370 0 [vR 7 x0, vI (w32 (M 7 x0 1 - 1)), vI x1] [] M (kI fun v1 M1 => Q (.inl (some (vI v1))) M1)) :=
  Tq_blk (is := bk_369_0) (dd := de_369) rfl rfl
/-- EarthOffice$Event of block at 0 -/
theorem t370_0 {x0 x1 x2 : Int} {M : Mem} {Q : AR → Mem → Prop} : Tq 370 0 [vR 7 x0, vI x1, vI x2] [] M Q ↔ (((0 : Int) ≤ w32 (w32 (8 * x1) + x2) ∧ w32 (w32 (8 * x1) + x2) < 128) ∧ Q (.inl (some (vI (M 7000 x0 (w32 (w32 (8 * x1) + x2)))))) M) :=
  Tq_blk (is := bk_370_0) (dd := de_370) rfl rfl
/-- EarthOffice$Event part block at 0 -/
theorem t371_0 {x0 x1 x2 : Int} {M : Mem} {Q : AR → Mem → Prop} : Tq 371 0 [vR 7 x0, vI x1, vI x2] [] M Q ↔ (((0 : Int) ≤ w32 (w32 (5 * x1) + x2) ∧ w32 (w32 (5 * x1) + x2) < 120) ∧ Q (.inl (some (vI (M 7002 x0 (w32 (w32 (5 * x1) + x2)))))) M) :=
  Tq_blk (is := bk_371_0) (dd := de_371) rfl rfl
/-- EarthOffice$Event hasArrival block at 0 -/
theorem t372_0 {x0 x1 x2 : Int} {M : Mem} {Q : AR → Mem → Prop} : Tq 372 0 [vR 7 x0, vI x1, vI x2, vJ, vJ] [] M Q ↔ (Tq 372 1 [vR 7 x0, vI x1, vI x2, vI 0, vI 0] [] M Q) :=
  Tq_blk (is := bk_372_0) (dd := de_372) rfl rfl
/-- EarthOffice$Event hasArrival block at 5 -/
theorem t372_1 {x0 x1 x2 x3 x4 : Int} {M : Mem} {Q : AR → Mem → Prop} : Tq 372 1 [vR 7 x0, vI x1, vI x2, vI x3, vI x4] [] M Q ↔ (if M 7 x0 3 ≤ x4 then Tq 372 4 [vJ, vJ, vJ, vI x3, vJ] [] M Q else Tq 371 0 [vR 7 x0, vI x4, vI 0] [] M (kI fun v1 M1 => if ¬ v1 = x1 then Tq 372 2 [vR 7 x0, vI x1, vI x2, vJ, vI x4] [vI x3] M1 Q else Tq 371 0 [vR 7 x0, vI x4, vI 2] [] M1 (kI fun v2 M2 => if ¬ v2 = x2 then Tq 372 2 [vR 7 x0, vI x1, vI x2, vJ, vI x4] [vI x3] M2 Q else Tq 372 3 [vR 7 x0, vI x1, vI x2, vJ, vI x4] [vI 1, vI x3] M2 Q))) :=
  Tq_blk (is := bk_372_1) (dd := de_372) rfl rfl
/-- EarthOffice$Event hasArrival block at 41 -/
theorem t372_2 {x0 x1 x2 x4 s0 : Int} {M : Mem} {Q : AR → Mem → Prop} : Tq 372 2 [vR 7 x0, vI x1, vI x2, vJ, vI x4] [vI s0] M Q ↔ (Tq 372 3 [vR 7 x0, vI x1, vI x2, vJ, vI x4] [vI 0, vI s0] M Q) :=
  Tq_blk (is := bk_372_2) (dd := de_372) rfl rfl
/-- EarthOffice$Event hasArrival block at 42 -/
theorem t372_3 {x0 x1 x2 x4 s0 s1 : Int} {M : Mem} {Q : AR → Mem → Prop} : Tq 372 3 [vR 7 x0, vI x1, vI x2, vJ, vI x4] [vI s0, vI s1] M Q ↔ (Tq 372 1 [vR 7 x0, vI x1, vI x2, vI (or32 s1 s0), vI (w32 (x4 + 1))] [] M Q) :=
  Tq_blk (is := bk_372_3) (dd := de_372) rfl rfl
/-- EarthOffice$Event hasArrival block at 50 -/
theorem t372_4 {x3 : Int} {M : Mem} {Q : AR → Mem → Prop} : Tq 372 4 [vJ, vJ, vJ, vI x3, vJ] [] M Q ↔ (Q (.inl (some (vI (nb x3)))) M) :=
  Tq_blk (is := bk_372_4) (dd := de_372) rfl rfl
/-- EarthOffice$Event polarities block at 0 -/
theorem t373_0 {x0 x1 : Int} {M : Mem} {Q : AR → Mem → Prop} : Tq 373 0 [vR 7 x0, vI x1, vJ, vJ] [] M Q ↔ (Tq 373 1 [vR 7 x0, vI x1, vI 0, vI 0] [] M Q) :=
  Tq_blk (is := bk_373_0) (dd := de_373) rfl rfl
/-- EarthOffice$Event polarities block at 4 -/
theorem t373_1 {x0 x1 x2 x3 : Int} {M : Mem} {Q : AR → Mem → Prop} : Tq 373 1 [vR 7 x0, vI x1, vI x2, vI x3] [] M Q ↔ (if M 7 x0 3 ≤ x3 then Tq 373 4 [vJ, vJ, vI x2, vJ] [] M Q else Tq 371 0 [vR 7 x0, vI x3, vI 4] [] M (kI fun v1 M1 => if ¬ v1 = x1 then Tq 373 2 [vR 7 x0, vI x1, vJ, vI x3] [vI x2] M1 Q else Tq 373 3 [vR 7 x0, vI x1, vJ, vI x3] [vI 1, vI x2] M1 Q)) :=
  Tq_blk (is := bk_373_1) (dd := de_373) rfl rfl
/-- EarthOffice$Event polarities block at 27 -/
theorem t373_2 {x0 x1 x3 s0 : Int} {M : Mem} {Q : AR → Mem → Prop} : Tq 373 2 [vR 7 x0, vI x1, vJ, vI x3] [vI s0] M Q ↔ (Tq 373 3 [vR 7 x0, vI x1, vJ, vI x3] [vI 0, vI s0] M Q) :=
  Tq_blk (is := bk_373_2) (dd := de_373) rfl rfl
/-- EarthOffice$Event polarities block at 28 -/
theorem t373_3 {x0 x1 x3 s0 s1 : Int} {M : Mem} {Q : AR → Mem → Prop} : Tq 373 3 [vR 7 x0, vI x1, vJ, vI x3] [vI s0, vI s1] M Q ↔ (Tq 373 1 [vR 7 x0, vI x1, vI (w32 (s1 + s0)), vI (w32 (x3 + 1))] [] M Q) :=
  Tq_blk (is := bk_373_3) (dd := de_373) rfl rfl
/-- EarthOffice$Event polarities block at 36 -/
theorem t373_4 {x2 : Int} {M : Mem} {Q : AR → Mem → Prop} : Tq 373 4 [vJ, vJ, vI x2, vJ] [] M Q ↔ (Q (.inl (some (vI x2))) M) :=
  Tq_blk (is := bk_373_4) (dd := de_373) rfl rfl
/-- EarthOffice$Gauges add block at 0 -/
theorem t374_0 {M : Mem} {Q : AR → Mem → Prop} : Tq 374 0 [vR 8 0] [] M Q ↔ (((0 : Int) ≤ M 8 0 0 ∧ M 8 0 0 < 4) ∧ bd (mset M 8001 0 (M 8 0 0) 0) fun M1 => ((0 : Int) ≤ M1 8 0 0 ∧ M1 8 0 0 < 4) ∧ bd (mset M1 8002 0 (M1 8 0 0) 0) fun M2 => ((0 : Int) ≤ M2 8 0 0 ∧ M2 8 0 0 < 4) ∧ bd (mset M2 8008 0 (M2 8 0 0) (-99999999)) fun M3 => bd (mset M3 8 0 0 (w32 (M3 8 0 0 + 1))) fun M4 => Q (.inl none) M4) :=
  Tq_blk (is := bk_374_0) (dd := de_374) rfl rfl
/-- EarthOffice$Gauges isGauge block at 0 -/
theorem t375_0 {x1 : Int} {M : Mem} {Q : AR → Mem → Prop} : Tq 375 0 [vR 8 0, vI x1] [] M Q ↔ (Tq 25 0 [vI x1, vI 0, vI (w32 (M 8 0 0 - 1))] [] M (kI fun v1 M1 => Q (.inl (some (vI (nb v1)))) M1)) :=
  Tq_blk (is := bk_375_0) (dd := de_375) rfl rfl
/-- EarthOffice$Gauges part block at 0 -/
theorem t376_0 {x1 x2 x3 x4 : Int} {M : Mem} {Q : AR → Mem → Prop} : Tq 376 0 [vR 8 0, vI x1, vI x2, vI x3, vI x4, vJ] [] M Q ↔ (((0 : Int) ≤ x1 ∧ x1 < 4) ∧ ((0 : Int) ≤ w32 (w32 (x1 * 6) + M 8002 0 x1) ∧ w32 (w32 (x1 * 6) + M 8002 0 x1) < 24) ∧ bd (mset M 8003 0 (w32 (w32 (x1 * 6) + M 8002 0 x1)) x2) fun M1 => ((0 : Int) ≤ w32 (w32 (x1 * 6) + M 8002 0 x1) ∧ w32 (w32 (x1 * 6) + M 8002 0 x1) < 24) ∧ bd (mset M1 8004 0 (w32 (w32 (x1 * 6) + M 8002 0 x1)) x3) fun M2 => ((0 : Int) ≤ w32 (w32 (x1 * 6) + M 8002 0 x1) ∧ w32 (w32 (x1 * 6) + M 8002 0 x1) < 24) ∧ bd (mset M2 8005 0 (w32 (w32 (x1 * 6) + M 8002 0 x1)) x4) fun M3 => ((0 : Int) ≤ x1 ∧ x1 < 4) ∧ ((0 : Int) ≤ x1 ∧ x1 < 4) ∧ bd (mset M3 8002 0 x1 (w32 (M3 8002 0 x1 + 1))) fun M4 => Q (.inl none) M4) :=
  Tq_blk (is := bk_376_0) (dd := de_376) rfl rfl
/-- EarthOffice$Gauges tell block at 0 -/
theorem t377_0 {x1 x2 x3 x4 : Int} {M : Mem} {Q : AR → Mem → Prop} : Tq 377 0 [vR 8 0, vI x1, vI x2, vI x3, vI x4] [] M Q ↔ (((0 : Int) ≤ w32 (w32 (x1 * 4096) + x2) ∧ w32 (w32 (x1 * 4096) + x2) < 16384) ∧ bd (mset M 8006 0 (w32 (w32 (x1 * 4096) + x2)) x3) fun M1 => ((0 : Int) ≤ w32 (w32 (x1 * 4096) + x2) ∧ w32 (w32 (x1 * 4096) + x2) < 16384) ∧ bd (mset M1 8007 0 (w32 (w32 (x1 * 4096) + x2)) (nb 1)) fun M2 => if x4 < x2 then Tq 377 1 [vR 8 0, vI x1, vJ, vJ, vJ] [vI x1, vR 8008 0] M2 Q else ((0 : Int) ≤ x1 ∧ x1 < 4) ∧ Tq 9 0 [vI (M2 8008 0 x1), vI x2] [] M2 (kI fun v1 M3 => Tq 377 2 [vJ, vJ, vJ, vJ, vJ] [vI v1, vI x1, vR 8008 0] M3 Q)) :=
  Tq_blk (is := bk_377_0) (dd := de_377) rfl rfl
/-- EarthOffice$Gauges tell block at 50 -/
theorem t377_1 {x1 s0 : Int} {M : Mem} {Q : AR → Mem → Prop} : Tq 377 1 [vR 8 0, vI x1, vJ, vJ, vJ] [vI s0, vR 8008 0] M Q ↔ (((0 : Int) ≤ x1 ∧ x1 < 4) ∧ Tq 377 2 [vJ, vJ, vJ, vJ, vJ] [vI (M 8008 0 x1), vI s0, vR 8008 0] M Q) :=
  Tq_blk (is := bk_377_1) (dd := de_377) rfl rfl
/-- EarthOffice$Gauges tell block at 56 -/
theorem t377_2 {s0 s1 : Int} {M : Mem} {Q : AR → Mem → Prop} : Tq 377 2 [vJ, vJ, vJ, vJ, vJ] [vI s0, vI s1, vR 8008 0] M Q ↔ (((0 : Int) ≤ s1 ∧ s1 < 4) ∧ bd (mset M 8008 0 s1 s0) fun M1 => Q (.inl none) M1) :=
  Tq_blk (is := bk_377_2) (dd := de_377) rfl rfl
/-- EarthOffice$Gauges predicted block at 0 -/
theorem t378_0 {x1 x2 : Int} {M : Mem} {Q : AR → Mem → Prop} : Tq 378 0 [vR 8 0, vI x1, vI x2, vJ, vJ, vJ] [] M Q ↔ (Tq 378 1 [vR 8 0, vI x1, vI x2, vL 0, vJ, vI (w32 (x1 * 6))] [] M Q) :=
  Tq_blk (is := bk_378_0) (dd := de_378) rfl rfl
/-- EarthOffice$Gauges predicted block at 8 -/
theorem t378_1 {x1 x2 x3 x5 : Int} {M : Mem} {Q : AR → Mem → Prop} : Tq 378 1 [vR 8 0, vI x1, vI x2, vL x3, vJ, vI x5] [] M Q ↔ (((0 : Int) ≤ x1 ∧ x1 < 4) ∧ if w32 (w32 (x1 * 6) + M 8002 0 x1) ≤ x5 then Tq 378 2 [vR 8 0, vI x1, vJ, vL x3, vJ, vJ] [] M Q else ((0 : Int) ≤ x5 ∧ x5 < 24) ∧ ((0 : Int) ≤ x5 ∧ x5 < 24) ∧ ((0 : Int) ≤ x5 ∧ x5 < 24) ∧ Tq 77 0 [vI (w32 (w32 ((M 8003 0 x5) * x2) + M 8005 0 x5)), vJ, vJ, vJ, vJ, vJ] [] M (kI fun v1 M1 => Tq 378 1 [vR 8 0, vI x1, vI x2, vL (w64 (x3 + w64 ((M 8004 0 x5) * v1))), vJ, vI (w32 (x5 + 1))] [] M1 Q)) :=
  Tq_blk (is := bk_378_1) (dd := de_378) rfl rfl
/-- EarthOffice$Gauges predicted block at 63 -/
theorem t378_2 {x1 x3 : Int} {M : Mem} {Q : AR → Mem → Prop} : Tq 378 2 [vR 8 0, vI x1, vJ, vL x3, vJ, vJ] [] M Q ↔ (((0 : Int) ≤ x1 ∧ x1 < 4) ∧ Q (.inl (some (vI (w32 (M 8001 0 x1 + w32 (shr64 x3 15)))))) M) :=
  Tq_blk (is := bk_378_2) (dd := de_378) rfl rfl
/-- EarthOffice$Gauges turn block at 0 -/
theorem t379_0 {x1 x2 x3 x4 x5 : Int} {M : Mem} {Q : AR → Mem → Prop} : Tq 379 0 [vR 8 0, vI x1, vI x2, vI x3, vI x4, vI x5, vJ, vJ, vJ, vJ, vJ, vJ] [] M Q ↔ (if x5 = 0 then Tq 379 1 [vR 8 0, vI x1, vI x2, vI x3, vI x4, vJ, vJ, vJ, vJ, vJ, vJ, vJ] [] M Q else Tq 379 2 [vR 8 0, vI x1, vI x2, vI x3, vI x4, vJ, vJ, vJ, vJ, vJ, vJ, vJ] [vI (-1)] M Q) :=
  Tq_blk (is := bk_379_0) (dd := de_379) rfl rfl
/-- EarthOffice$Gauges turn block at 9 -/
theorem t379_1 {x1 x2 x3 x4 : Int} {M : Mem} {Q : AR → Mem → Prop} : Tq 379 1 [vR 8 0, vI x1, vI x2, vI x3, vI x4, vJ, vJ, vJ, vJ, vJ, vJ, vJ] [] M Q ↔ (Tq 379 2 [vR 8 0, vI x1, vI x2, vI x3, vI x4, vJ, vJ, vJ, vJ, vJ, vJ, vJ] [vI 1] M Q) :=
  Tq_blk (is := bk_379_1) (dd := de_379) rfl rfl
/-- EarthOffice$Gauges turn block at 10 -/
theorem t379_2_c10 {x1 x2 x3 x4 x6 x7 x8 s0 s1 : Int} {M : Mem} {Q : AR → Mem → Prop} : Bq 379 de_379 (List.drop 10 bk_379_2) [vR 8 0, vI x1, vI x2, vI x3, vI x4, vJ, vI x6, vI x7, vI x8, vJ, vJ, vJ] [vI s0, vI s1] M Q ↔ (Tq 379 3 [vR 8 0, vI x1, vJ, vI x3, vJ, vJ, vI x6, vI x7, vI x8, vI (w32 (s1 * s0)), vI (w32 (x2 + 1)), vJ] [] M Q) :=
  Iff.rfl
theorem t379_2_c6 {x1 x2 x3 x4 x6 x7 x8 s0 : Int} {M : Mem} {Q : AR → Mem → Prop} : Bq 379 de_379 (List.drop 6 bk_379_2) [vR 8 0, vI x1, vI x2, vI x3, vI x4, vJ, vI x6, vI x7, vI x8, vJ, vJ, vJ] [vI s0] M Q ↔ (Tq 378 0 [vR 8 0, vI x1, vI x2, vJ, vJ, vJ] [] M (kI fun v1 M1 => Tq 379 3 [vR 8 0, vI x1, vJ, vI x3, vJ, vJ, vI x6, vI x7, vI x8, vI (w32 (s0 * v1)), vI (w32 (x2 + 1)), vJ] [] M1 Q)) :=
  (show Bq 379 de_379 (List.drop 6 bk_379_2) [vR 8 0, vI x1, vI x2, vI x3, vI x4, vJ, vI x6, vI x7, vI x8, vJ, vJ, vJ] [vI s0] M Q ↔ (Tq 378 0 [vR 8 0, vI x1, vI x2, vJ, vJ, vJ] [] M (kI fun v1 M1 => Bq 379 de_379 (List.drop 10 bk_379_2) [vR 8 0, vI x1, vI x2, vI x3, vI x4, vJ, vI x6, vI x7, vI x8, vJ, vJ, vJ] [vI v1, vI s0] M1 Q)) from Iff.rfl).trans (by simp only [t379_2_c10])
theorem t379_2 {x1 x2 x3 x4 s0 : Int} {M : Mem} {Q : AR → Mem → Prop} : Tq 379 2 [vR 8 0, vI x1, vI x2, vI x3, vI x4, vJ, vJ, vJ, vJ, vJ, vJ, vJ] [vI s0] M Q ↔ (Tq 378 0 [vR 8 0, vI x1, vI x2, vJ, vJ, vJ] [] M (kI fun v1 M1 => Tq 379 3 [vR 8 0, vI x1, vJ, vI x3, vJ, vJ, vI s0, vI x4, vI (-99999999), vI (w32 (s0 * v1)), vI (w32 (x2 + 1)), vJ] [] M1 Q)) :=
  (show Tq 379 2 [vR 8 0, vI x1, vI x2, vI x3, vI x4, vJ, vJ, vJ, vJ, vJ, vJ, vJ] [vI s0] M Q ↔ (Bq 379 de_379 (List.drop 6 bk_379_2) [vR 8 0, vI x1, vI x2, vI x3, vI x4, vJ, vI s0, vI x4, vI (-99999999), vJ, vJ, vJ] [vI s0] M Q) from Tq_blk (is := bk_379_2) (dd := de_379) rfl rfl).trans (by simp only [t379_2_c6])
/-- EarthOffice$Gauges turn block at 36 -/
theorem t379_3_c16 {x1 x3 x6 x7 x8 x9 x10 x11 s0 : Int} {M : Mem} {Q : AR → Mem → Prop} : Bq 379 de_379 (List.drop 16 bk_379_3) [vR 8 0, vI x1, vJ, vI x3, vJ, vJ, vI x6, vI x7, vI x8, vI x9, vI x10, vI x11] [vI s0] M Q ↔ (if s0 = (-99999999) then Tq 379 5 [vR 8 0, vI x1, vJ, vI x3, vJ, vJ, vI x6, vI x7, vI x8, vI x9, vI x10, vI x11] [] M Q else if ¬ x7 = 0 then Tq 379 4 [vR 8 0, vI x1, vJ, vI x3, vJ, vJ, vI x6, vI x7, vI x8, vI x9, vI x10, vI x11] [] M Q else Q (.inl (some (vI x8))) M) :=
  Iff.rfl
theorem t379_3_c10 {x1 x3 x6 x7 x8 x9 x10 s0 s1 : Int} {M : Mem} {Q : AR → Mem → Prop} : Bq 379 de_379 (List.drop 10 bk_379_3) [vR 8 0, vI x1, vJ, vI x3, vJ, vJ, vI x6, vI x7, vI x8, vI x9, vI x10, vJ] [vI s0, vI s1] M Q ↔ (if x9 ≤ w32 (s1 * s0) then Tq 379 5 [vR 8 0, vI x1, vJ, vI x3, vJ, vJ, vI x6, vI x7, vI x8, vI x9, vI x10, vI (w32 (s1 * s0))] [] M Q else if x8 = (-99999999) then Tq 379 5 [vR 8 0, vI x1, vJ, vI x3, vJ, vJ, vI x6, vI x7, vI x8, vI x9, vI x10, vI (w32 (s1 * s0))] [] M Q else if ¬ x7 = 0 then Tq 379 4 [vR 8 0, vI x1, vJ, vI x3, vJ, vJ, vI x6, vI x7, vI x8, vI x9, vI x10, vI (w32 (s1 * s0))] [] M Q else Q (.inl (some (vI x8))) M) :=
  (show Bq 379 de_379 (List.drop 10 bk_379_3) [vR 8 0, vI x1, vJ, vI x3, vJ, vJ, vI x6, vI x7, vI x8, vI x9, vI x10, vJ] [vI s0, vI s1] M Q ↔ (if x9 ≤ w32 (s1 * s0) then Tq 379 5 [vR 8 0, vI x1, vJ, vI x3, vJ, vJ, vI x6, vI x7, vI x8, vI x9, vI x10, vI (w32 (s1 * s0))] [] M Q else Bq 379 de_379 (List.drop 16 bk_379_3) [vR 8 0, vI x1, vJ, vI x3, vJ, vJ, vI x6, vI x7, vI x8, vI x9, vI x10, vI (w32 (s1 * s0))] [vI x8] M Q) from Iff.rfl).trans (by simp only [t379_3_c16])
theorem t379_3_c6 {x1 x3 x6 x7 x8 x9 x10 s0 : Int} {M : Mem} {Q : AR → Mem → Prop} : Bq 379 de_379 (List.drop 6 bk_379_3) [vR 8 0, vI x1, vJ, vI x3, vJ, vJ, vI x6, vI x7, vI x8, vI x9, vI x10, vJ] [vI s0] M Q ↔ (Tq 378 0 [vR 8 0, vI x1, vI x10, vJ, vJ, vJ] [] M (kI fun v1 M1 => if x9 ≤ w32 (s0 * v1) then Tq 379 5 [vR 8 0, vI x1, vJ, vI x3, vJ, vJ, vI x6, vI x7, vI x8, vI x9, vI x10, vI (w32 (s0 * v1))] [] M1 Q else if x8 = (-99999999) then Tq 379 5 [vR 8 0, vI x1, vJ, vI x3, vJ, vJ, vI x6, vI x7, vI x8, vI x9, vI x10, vI (w32 (s0 * v1))] [] M1 Q else if ¬ x7 = 0 then Tq 379 4 [vR 8 0, vI x1, vJ, vI x3, vJ, vJ, vI x6, vI x7, vI x8, vI x9, vI x10, vI (w32 (s0 * v1))] [] M1 Q else Q (.inl (some (vI x8))) M1)) :=
  (show Bq 379 de_379 (List.drop 6 bk_379_3) [vR 8 0, vI x1, vJ, vI x3, vJ, vJ, vI x6, vI x7, vI x8, vI x9, vI x10, vJ] [vI s0] M Q ↔ (Tq 378 0 [vR 8 0, vI x1, vI x10, vJ, vJ, vJ] [] M (kI fun v1 M1 => Bq 379 de_379 (List.drop 10 bk_379_3) [vR 8 0, vI x1, vJ, vI x3, vJ, vJ, vI x6, vI x7, vI x8, vI x9, vI x10, vJ] [vI v1, vI s0] M1 Q)) from Iff.rfl).trans (by simp only [t379_3_c10])
theorem t379_3 {x1 x3 x6 x7 x8 x9 x10 : Int} {M : Mem} {Q : AR → Mem → Prop} : Tq 379 3 [vR 8 0, vI x1, vJ, vI x3, vJ, vJ, vI x6, vI x7, vI x8, vI x9, vI x10, vJ] [] M Q ↔ (if x3 < x10 then Tq 379 9 [vJ, vJ, vJ, vJ, vJ, vJ, vJ, vJ, vJ, vJ, vJ, vJ] [] M Q else if x7 < 0 then Tq 379 9 [vJ, vJ, vJ, vJ, vJ, vJ, vJ, vJ, vJ, vJ, vJ, vJ] [] M Q else Tq 378 0 [vR 8 0, vI x1, vI x10, vJ, vJ, vJ] [] M (kI fun v1 M1 => if x9 ≤ w32 (x6 * v1) then Tq 379 5 [vR 8 0, vI x1, vJ, vI x3, vJ, vJ, vI x6, vI x7, vI x8, vI x9, vI x10, vI (w32 (x6 * v1))] [] M1 Q else if x8 = (-99999999) then Tq 379 5 [vR 8 0, vI x1, vJ, vI x3, vJ, vJ, vI x6, vI x7, vI x8, vI x9, vI x10, vI (w32 (x6 * v1))] [] M1 Q else if ¬ x7 = 0 then Tq 379 4 [vR 8 0, vI x1, vJ, vI x3, vJ, vJ, vI x6, vI x7, vI x8, vI x9, vI x10, vI (w32 (x6 * v1))] [] M1 Q else Q (.inl (some (vI x8))) M1)) :=
  (show Tq 379 3 [vR 8 0, vI x1, vJ, vI x3, vJ, vJ, vI x6, vI x7, vI x8, vI x9, vI x10, vJ] [] M Q ↔ (if x3 < x10 then Tq 379 9 [vJ, vJ, vJ, vJ, vJ, vJ, vJ, vJ, vJ, vJ, vJ, vJ] [] M Q else if x7 < 0 then Tq 379 9 [vJ, vJ, vJ, vJ, vJ, vJ, vJ, vJ, vJ, vJ, vJ, vJ] [] M Q else Bq 379 de_379 (List.drop 6 bk_379_3) [vR 8 0, vI x1, vJ, vI x3, vJ, vJ, vI x6, vI x7, vI x8, vI x9, vI x10, vJ] [vI x6] M Q) from Tq_blk (is := bk_379_3) (dd := de_379) rfl rfl).trans (by simp only [t379_3_c6])
/-- EarthOffice$Gauges turn block at 81 -/
theorem t379_4 {x1 x3 x6 x7 x8 x9 x10 x11 : Int} {M : Mem} {Q : AR → Mem → Prop} : Tq 379 4 [vR 8 0, vI x1, vJ, vI x3, vJ, vJ, vI x6, vI x7, vI x8, vI x9, vI x10, vI x11] [] M Q ↔ (Tq 379 5 [vR 8 0, vI x1, vJ, vI x3, vJ, vJ, vI x6, vI (w32 (x7 + (-1))), vI x8, vI x9, vI x10, vI x11] [] M Q) :=
  Tq_blk (is := bk_379_4) (dd := de_379) rfl rfl
/-- EarthOffice$Gauges turn block at 84 -/
theorem t379_5 {x1 x3 x6 x7 x8 x9 x10 x11 : Int} {M : Mem} {Q : AR → Mem → Prop} : Tq 379 5 [vR 8 0, vI x1, vJ, vI x3, vJ, vJ, vI x6, vI x7, vI x8, vI x9, vI x10, vI x11] [] M Q ↔ (if x11 ≤ x9 then Tq 379 6 [vR 8 0, vI x1, vJ, vI x3, vJ, vJ, vI x6, vI x7, vI x8, vI x9, vI x10, vI x11] [] M Q else Tq 379 8 [vR 8 0, vI x1, vJ, vI x3, vJ, vJ, vI x6, vI x7, vJ, vJ, vI x10, vI x11] [vI x10] M Q) :=
  Tq_blk (is := bk_379_5) (dd := de_379) rfl rfl
/-- EarthOffice$Gauges turn block at 96 -/
theorem t379_6 {x1 x3 x6 x7 x8 x9 x10 x11 : Int} {M : Mem} {Q : AR → Mem → Prop} : Tq 379 6 [vR 8 0, vI x1, vJ, vI x3, vJ, vJ, vI x6, vI x7, vI x8, vI x9, vI x10, vI x11] [] M Q ↔ (if x9 ≤ x11 then Tq 379 7 [vR 8 0, vI x1, vJ, vI x3, vJ, vJ, vI x6, vI x7, vI x8, vJ, vI x10, vI x11] [] M Q else Tq 379 8 [vR 8 0, vI x1, vJ, vI x3, vJ, vJ, vI x6, vI x7, vJ, vJ, vI x10, vI x11] [vI (-99999999)] M Q) :=
  Tq_blk (is := bk_379_6) (dd := de_379) rfl rfl
/-- EarthOffice$Gauges turn block at 108 -/
theorem t379_7 {x1 x3 x6 x7 x8 x10 x11 : Int} {M : Mem} {Q : AR → Mem → Prop} : Tq 379 7 [vR 8 0, vI x1, vJ, vI x3, vJ, vJ, vI x6, vI x7, vI x8, vJ, vI x10, vI x11] [] M Q ↔ (Tq 379 8 [vR 8 0, vI x1, vJ, vI x3, vJ, vJ, vI x6, vI x7, vJ, vJ, vI x10, vI x11] [vI x8] M Q) :=
  Tq_blk (is := bk_379_7) (dd := de_379) rfl rfl
/-- EarthOffice$Gauges turn block at 110 -/
theorem t379_8 {x1 x3 x6 x7 x10 x11 s0 : Int} {M : Mem} {Q : AR → Mem → Prop} : Tq 379 8 [vR 8 0, vI x1, vJ, vI x3, vJ, vJ, vI x6, vI x7, vJ, vJ, vI x10, vI x11] [vI s0] M Q ↔ (Tq 379 3 [vR 8 0, vI x1, vJ, vI x3, vJ, vJ, vI x6, vI x7, vI s0, vI x11, vI (w32 (x10 + 1)), vJ] [] M Q) :=
  Tq_blk (is := bk_379_8) (dd := de_379) rfl rfl
/-- EarthOffice$Gauges turn block at 122 -/
theorem t379_9 {M : Mem} {Q : AR → Mem → Prop} : Tq 379 9 [vJ, vJ, vJ, vJ, vJ, vJ, vJ, vJ, vJ, vJ, vJ, vJ] [] M Q ↔ (Q (.inl (some (vI (-99999999)))) M) :=
  Tq_blk (is := bk_379_9) (dd := de_379) rfl rfl
/-- EarthOffice$Gauges pass block at 0 -/
theorem t380_0 {x1 : Int} {M : Mem} {Q : AR → Mem → Prop} : Tq 380 0 [vR 8 0, vI x1, vJ] [] M Q ↔ (Tq 380 1 [vR 8 0, vI x1, vI 0] [] M Q) :=
  Tq_blk (is := bk_380_0) (dd := de_380) rfl rfl
/-- EarthOffice$Gauges pass block at 2 -/
theorem t380_1 {x1 x2 : Int} {M : Mem} {Q : AR → Mem → Prop} : Tq 380 1 [vR 8 0, vI x1, vI x2] [] M Q ↔ (if M 8 0 0 ≤ x2 then Tq 380 4 [vJ, vJ, vJ] [] M Q else ((0 : Int) ≤ w32 (w32 (x2 * 4096) + x1) ∧ w32 (w32 (x2 * 4096) + x1) < 16384) ∧ if M 8007 0 (w32 (w32 (x2 * 4096) + x1)) = 0 then Tq 380 2 [vR 8 0, vI x1, vI x2] [vI x2, vR 8008 0] M Q else Tq 380 3 [vR 8 0, vI x1, vI x2] [vI x1, vI x2, vR 8008 0] M Q) :=
  Tq_blk (is := bk_380_1) (dd := de_380) rfl rfl
/-- EarthOffice$Gauges pass block at 34 -/
theorem t380_2 {x1 x2 s0 : Int} {M : Mem} {Q : AR → Mem → Prop} : Tq 380 2 [vR 8 0, vI x1, vI x2] [vI s0, vR 8008 0] M Q ↔ (((0 : Int) ≤ x2 ∧ x2 < 4) ∧ Tq 380 3 [vR 8 0, vI x1, vI x2] [vI (M 8008 0 x2), vI s0, vR 8008 0] M Q) :=
  Tq_blk (is := bk_380_2) (dd := de_380) rfl rfl
/-- EarthOffice$Gauges pass block at 40 -/
theorem t380_3 {x1 x2 s0 s1 : Int} {M : Mem} {Q : AR → Mem → Prop} : Tq 380 3 [vR 8 0, vI x1, vI x2] [vI s0, vI s1, vR 8008 0] M Q ↔ (((0 : Int) ≤ s1 ∧ s1 < 4) ∧ bd (mset M 8008 0 s1 s0) fun M1 => Tq 380 1 [vR 8 0, vI x1, vI (w32 (x2 + 1))] [] M1 Q) :=
  Tq_blk (is := bk_380_3) (dd := de_380) rfl rfl
/-- EarthOffice$Gauges pass block at 47 -/
theorem t380_4 {M : Mem} {Q : AR → Mem → Prop} : Tq 380 4 [vJ, vJ, vJ] [] M Q ↔ (Q (.inl none) M) :=
  Tq_blk (is := bk_380_4) (dd := de_380) rfl rfl
/-- EarthOffice$Gauges newest block at 0 -/
theorem t381_0 {x1 : Int} {M : Mem} {Q : AR → Mem → Prop} : Tq 381 0 [vR 8 0, vI x1] [] M Q ↔ (Tq 375 0 [vR 8 0, vI x1] [] M (kI fun v1 M1 => if v1 = 0 then Tq 381 1 [vJ, vJ] [] M1 Q else ((0 : Int) ≤ x1 ∧ x1 < 4) ∧ if M1 8008 0 x1 = (-99999999) then Tq 381 1 [vJ, vJ] [] M1 Q else ((0 : Int) ≤ x1 ∧ x1 < 4) ∧ ((0 : Int) ≤ w32 (w32 (x1 * 4096) + M1 8008 0 x1) ∧ w32 (w32 (x1 * 4096) + M1 8008 0 x1) < 16384) ∧ Tq 381 2 [vJ, vJ] [vI (M1 8006 0 (w32 (w32 (x1 * 4096) + M1 8008 0 x1)))] M1 Q)) :=
  Tq_blk (is := bk_381_0) (dd := de_381) rfl rfl
/-- EarthOffice$Gauges newest block at 39 -/
theorem t381_1 {M : Mem} {Q : AR → Mem → Prop} : Tq 381 1 [vJ, vJ] [] M Q ↔ (Tq 381 2 [vJ, vJ] [vI 0] M Q) :=
  Tq_blk (is := bk_381_1) (dd := de_381) rfl rfl
/-- EarthOffice$Gauges newest block at 40 -/
theorem t381_2 {s0 : Int} {M : Mem} {Q : AR → Mem → Prop} : Tq 381 2 [vJ, vJ] [vI s0] M Q ↔ (Q (.inl (some (vI s0))) M) :=
  Tq_blk (is := bk_381_2) (dd := de_381) rfl rfl
/-- EarthOffice$Gauges newestSurge block at 0 -/
theorem t382_0 {x1 : Int} {M : Mem} {Q : AR → Mem → Prop} : Tq 382 0 [vR 8 0, vI x1] [] M Q ↔ (Tq 375 0 [vR 8 0, vI x1] [] M (kI fun v1 M1 => if v1 = 0 then Tq 382 1 [vJ, vJ] [] M1 Q else ((0 : Int) ≤ x1 ∧ x1 < 4) ∧ if M1 8008 0 x1 = (-99999999) then Tq 382 1 [vJ, vJ] [] M1 Q else ((0 : Int) ≤ x1 ∧ x1 < 4) ∧ ((0 : Int) ≤ w32 (w32 (x1 * 4096) + M1 8008 0 x1) ∧ w32 (w32 (x1 * 4096) + M1 8008 0 x1) < 16384) ∧ ((0 : Int) ≤ x1 ∧ x1 < 4) ∧ Tq 378 0 [vR 8 0, vI x1, vI (M1 8008 0 x1), vJ, vJ, vJ] [] M1 (kI fun v2 M2 => Tq 382 2 [vJ, vJ] [vI (w32 (M1 8006 0 (w32 (w32 (x1 * 4096) + M1 8008 0 x1)) - v2))] M2 Q))) :=
  Tq_blk (is := bk_382_0) (dd := de_382) rfl rfl
/-- EarthOffice$Gauges newestSurge block at 51 -/
theorem t382_1 {M : Mem} {Q : AR → Mem → Prop} : Tq 382 1 [vJ, vJ] [] M Q ↔ (Tq 382 2 [vJ, vJ] [vI 0] M Q) :=
  Tq_blk (is := bk_382_1) (dd := de_382) rfl rfl
/-- EarthOffice$Gauges newestSurge block at 52 -/
theorem t382_2 {s0 : Int} {M : Mem} {Q : AR → Mem → Prop} : Tq 382 2 [vJ, vJ] [vI s0] M Q ↔ (Q (.inl (some (vI s0))) M) :=
  Tq_blk (is := bk_382_2) (dd := de_382) rfl rfl
/-- EarthOffice$Gauges clear block at 0 -/
theorem t383_0 {M : Mem} {Q : AR → Mem → Prop} : Tq 383 0 [vR 8 0] [] M Q ↔ (bd (mset M 8 0 0 0) fun M1 => Tq 4 0 [vR 8007 0, vI 0, vJ, vJ] [] M1 (kV fun M2 => Q (.inl none) M2)) :=
  Tq_blk (is := bk_383_0) (dd := de_383) rfl rfl
/-- EarthOffice$Alerts add block at 0 -/
theorem t384_0_c60 {x1 x2 x3 x4 x5 s0 s1 : Int} {M : Mem} {Q : AR → Mem → Prop} : Bq 384 de_384 (List.drop 60 bk_384_0) [vR 9 0, vI x1, vI x2, vI x3, vI x4, vI x5] [vI s0, vI s1, vR 9 0] M Q ↔ (bd (mset M 9 0 0 (w32 (s1 + s0))) fun M1 => Q (.inl none) M1) :=
  Iff.rfl
theorem t384_0_c54 {x1 x2 x3 x4 x5 s0 : Int} {M : Mem} {Q : AR → Mem → Prop} : Bq 384 de_384 (List.drop 54 bk_384_0) [vR 9 0, vI x1, vI x2, vI x3, vI x4, vI x5] [vI s0, vR 9004 0] M Q ↔ (((0 : Int) ≤ s0 ∧ s0 < 8) ∧ bd (mset M 9004 0 s0 0) fun M1 => bd (mset M1 9 0 0 (w32 (M1 9 0 0 + 1))) fun M2 => Q (.inl none) M2) :=
  (show Bq 384 de_384 (List.drop 54 bk_384_0) [vR 9 0, vI x1, vI x2, vI x3, vI x4, vI x5] [vI s0, vR 9004 0] M Q ↔ (((0 : Int) ≤ s0 ∧ s0 < 8) ∧ bd (mset M 9004 0 s0 0) fun M1 => Bq 384 de_384 (List.drop 60 bk_384_0) [vR 9 0, vI x1, vI x2, vI x3, vI x4, vI x5] [vI 1, vI (M1 9 0 0), vR 9 0] M1 Q) from Iff.rfl).trans (by simp only [t384_0_c60])
theorem t384_0_c48 {x1 x2 x3 x4 x5 s0 : Int} {M : Mem} {Q : AR → Mem → Prop} : Bq 384 de_384 (List.drop 48 bk_384_0) [vR 9 0, vI x1, vI x2, vI x3, vI x4, vI x5] [vI s0, vR 9003 0] M Q ↔ (((0 : Int) ≤ s0 ∧ s0 < 8) ∧ bd (mset M 9003 0 s0 (nb 0)) fun M1 => ((0 : Int) ≤ M1 9 0 0 ∧ M1 9 0 0 < 8) ∧ bd (mset M1 9004 0 (M1 9 0 0) 0) fun M2 => bd (mset M2 9 0 0 (w32 (M2 9 0 0 + 1))) fun M3 => Q (.inl none) M3) :=
  (show Bq 384 de_384 (List.drop 48 bk_384_0) [vR 9 0, vI x1, vI x2, vI x3, vI x4, vI x5] [vI s0, vR 9003 0] M Q ↔ (((0 : Int) ≤ s0 ∧ s0 < 8) ∧ bd (mset M 9003 0 s0 (nb 0)) fun M1 => Bq 384 de_384 (List.drop 54 bk_384_0) [vR 9 0, vI x1, vI x2, vI x3, vI x4, vI x5] [vI (M1 9 0 0), vR 9004 0] M1 Q) from Iff.rfl).trans (by simp only [t384_0_c54])
theorem t384_0_c42 {x1 x2 x3 x4 x5 s0 : Int} {M : Mem} {Q : AR → Mem → Prop} : Bq 384 de_384 (List.drop 42 bk_384_0) [vR 9 0, vI x1, vI x2, vI x3, vI x4, vI x5] [vI s0, vR 9002 0] M Q ↔ (((0 : Int) ≤ s0 ∧ s0 < 8) ∧ bd (mset M 9002 0 s0 (nb x5)) fun M1 => ((0 : Int) ≤ M1 9 0 0 ∧ M1 9 0 0 < 8) ∧ bd (mset M1 9003 0 (M1 9 0 0) (nb 0)) fun M2 => ((0 : Int) ≤ M2 9 0 0 ∧ M2 9 0 0 < 8) ∧ bd (mset M2 9004 0 (M2 9 0 0) 0) fun M3 => bd (mset M3 9 0 0 (w32 (M3 9 0 0 + 1))) fun M4 => Q (.inl none) M4) :=
  (show Bq 384 de_384 (List.drop 42 bk_384_0) [vR 9 0, vI x1, vI x2, vI x3, vI x4, vI x5] [vI s0, vR 9002 0] M Q ↔ (((0 : Int) ≤ s0 ∧ s0 < 8) ∧ bd (mset M 9002 0 s0 (nb x5)) fun M1 => Bq 384 de_384 (List.drop 48 bk_384_0) [vR 9 0, vI x1, vI x2, vI x3, vI x4, vI x5] [vI (M1 9 0 0), vR 9003 0] M1 Q) from Iff.rfl).trans (by simp only [t384_0_c48])
theorem t384_0_c36 {x1 x2 x3 x4 x5 s0 : Int} {M : Mem} {Q : AR → Mem → Prop} : Bq 384 de_384 (List.drop 36 bk_384_0) [vR 9 0, vI x1, vI x2, vI x3, vI x4, vI x5] [vI s0, vR 9001 0] M Q ↔ (((0 : Int) ≤ s0 ∧ s0 < 32) ∧ bd (mset M 9001 0 s0 x4) fun M1 => ((0 : Int) ≤ M1 9 0 0 ∧ M1 9 0 0 < 8) ∧ bd (mset M1 9002 0 (M1 9 0 0) (nb x5)) fun M2 => ((0 : Int) ≤ M2 9 0 0 ∧ M2 9 0 0 < 8) ∧ bd (mset M2 9003 0 (M2 9 0 0) (nb 0)) fun M3 => ((0 : Int) ≤ M3 9 0 0 ∧ M3 9 0 0 < 8) ∧ bd (mset M3 9004 0 (M3 9 0 0) 0) fun M4 => bd (mset M4 9 0 0 (w32 (M4 9 0 0 + 1))) fun M5 => Q (.inl none) M5) :=
  (show Bq 384 de_384 (List.drop 36 bk_384_0) [vR 9 0, vI x1, vI x2, vI x3, vI x4, vI x5] [vI s0, vR 9001 0] M Q ↔ (((0 : Int) ≤ s0 ∧ s0 < 32) ∧ bd (mset M 9001 0 s0 x4) fun M1 => Bq 384 de_384 (List.drop 42 bk_384_0) [vR 9 0, vI x1, vI x2, vI x3, vI x4, vI x5] [vI (M1 9 0 0), vR 9002 0] M1 Q) from Iff.rfl).trans (by simp only [t384_0_c42])
theorem t384_0_c30 {x1 x2 x3 x4 x5 : Int} {M : Mem} {Q : AR → Mem → Prop} : Bq 384 de_384 (List.drop 30 bk_384_0) [vR 9 0, vI x1, vI x2, vI x3, vI x4, vI x5] [vR 9001 0] M Q ↔ (((0 : Int) ≤ w32 (w32 (4 * (M 9 0 0)) + 3) ∧ w32 (w32 (4 * (M 9 0 0)) + 3) < 32) ∧ bd (mset M 9001 0 (w32 (w32 (4 * (M 9 0 0)) + 3)) x4) fun M1 => ((0 : Int) ≤ M1 9 0 0 ∧ M1 9 0 0 < 8) ∧ bd (mset M1 9002 0 (M1 9 0 0) (nb x5)) fun M2 => ((0 : Int) ≤ M2 9 0 0 ∧ M2 9 0 0 < 8) ∧ bd (mset M2 9003 0 (M2 9 0 0) (nb 0)) fun M3 => ((0 : Int) ≤ M3 9 0 0 ∧ M3 9 0 0 < 8) ∧ bd (mset M3 9004 0 (M3 9 0 0) 0) fun M4 => bd (mset M4 9 0 0 (w32 (M4 9 0 0 + 1))) fun M5 => Q (.inl none) M5) :=
  (show Bq 384 de_384 (List.drop 30 bk_384_0) [vR 9 0, vI x1, vI x2, vI x3, vI x4, vI x5] [vR 9001 0] M Q ↔ (Bq 384 de_384 (List.drop 36 bk_384_0) [vR 9 0, vI x1, vI x2, vI x3, vI x4, vI x5] [vI (w32 (w32 (4 * (M 9 0 0)) + 3)), vR 9001 0] M Q) from Iff.rfl).trans (by simp only [t384_0_c36])
theorem t384_0_c24 {x1 x2 x3 x4 x5 s0 : Int} {M : Mem} {Q : AR → Mem → Prop} : Bq 384 de_384 (List.drop 24 bk_384_0) [vR 9 0, vI x1, vI x2, vI x3, vI x4, vI x5] [vI s0, vR 9001 0] M Q ↔ (((0 : Int) ≤ w32 (s0 + 2) ∧ w32 (s0 + 2) < 32) ∧ bd (mset M 9001 0 (w32 (s0 + 2)) x3) fun M1 => ((0 : Int) ≤ w32 (w32 (4 * (M1 9 0 0)) + 3) ∧ w32 (w32 (4 * (M1 9 0 0)) + 3) < 32) ∧ bd (mset M1 9001 0 (w32 (w32 (4 * (M1 9 0 0)) + 3)) x4) fun M2 => ((0 : Int) ≤ M2 9 0 0 ∧ M2 9 0 0 < 8) ∧ bd (mset M2 9002 0 (M2 9 0 0) (nb x5)) fun M3 => ((0 : Int) ≤ M3 9 0 0 ∧ M3 9 0 0 < 8) ∧ bd (mset M3 9003 0 (M3 9 0 0) (nb 0)) fun M4 => ((0 : Int) ≤ M4 9 0 0 ∧ M4 9 0 0 < 8) ∧ bd (mset M4 9004 0 (M4 9 0 0) 0) fun M5 => bd (mset M5 9 0 0 (w32 (M5 9 0 0 + 1))) fun M6 => Q (.inl none) M6) :=
  (show Bq 384 de_384 (List.drop 24 bk_384_0) [vR 9 0, vI x1, vI x2, vI x3, vI x4, vI x5] [vI s0, vR 9001 0] M Q ↔ (((0 : Int) ≤ w32 (s0 + 2) ∧ w32 (s0 + 2) < 32) ∧ bd (mset M 9001 0 (w32 (s0 + 2)) x3) fun M1 => Bq 384 de_384 (List.drop 30 bk_384_0) [vR 9 0, vI x1, vI x2, vI x3, vI x4, vI x5] [vR 9001 0] M1 Q) from Iff.rfl).trans (by simp only [t384_0_c30])
theorem t384_0_c18 {x1 x2 x3 x4 x5 : Int} {M : Mem} {Q : AR → Mem → Prop} : Bq 384 de_384 (List.drop 18 bk_384_0) [vR 9 0, vI x1, vI x2, vI x3, vI x4, vI x5] [] M Q ↔ (((0 : Int) ≤ w32 (w32 (4 * (M 9 0 0)) + 2) ∧ w32 (w32 (4 * (M 9 0 0)) + 2) < 32) ∧ bd (mset M 9001 0 (w32 (w32 (4 * (M 9 0 0)) + 2)) x3) fun M1 => ((0 : Int) ≤ w32 (w32 (4 * (M1 9 0 0)) + 3) ∧ w32 (w32 (4 * (M1 9 0 0)) + 3) < 32) ∧ bd (mset M1 9001 0 (w32 (w32 (4 * (M1 9 0 0)) + 3)) x4) fun M2 => ((0 : Int) ≤ M2 9 0 0 ∧ M2 9 0 0 < 8) ∧ bd (mset M2 9002 0 (M2 9 0 0) (nb x5)) fun M3 => ((0 : Int) ≤ M3 9 0 0 ∧ M3 9 0 0 < 8) ∧ bd (mset M3 9003 0 (M3 9 0 0) (nb 0)) fun M4 => ((0 : Int) ≤ M4 9 0 0 ∧ M4 9 0 0 < 8) ∧ bd (mset M4 9004 0 (M4 9 0 0) 0) fun M5 => bd (mset M5 9 0 0 (w32 (M5 9 0 0 + 1))) fun M6 => Q (.inl none) M6) :=
  (show Bq 384 de_384 (List.drop 18 bk_384_0) [vR 9 0, vI x1, vI x2, vI x3, vI x4, vI x5] [] M Q ↔ (Bq 384 de_384 (List.drop 24 bk_384_0) [vR 9 0, vI x1, vI x2, vI x3, vI x4, vI x5] [vI (w32 (4 * (M 9 0 0))), vR 9001 0] M Q) from Iff.rfl).trans (by simp only [t384_0_c24])
theorem t384_0_c12 {x1 x2 x3 x4 x5 s1 : Int} {M : Mem} {Q : AR → Mem → Prop} : Bq 384 de_384 (List.drop 12 bk_384_0) [vR 9 0, vI x1, vI x2, vI x3, vI x4, vI x5] [vR 9 0, vI s1, vR 9001 0] M Q ↔ (((0 : Int) ≤ w32 (w32 (s1 * (M 9 0 0)) + 1) ∧ w32 (w32 (s1 * (M 9 0 0)) + 1) < 32) ∧ bd (mset M 9001 0 (w32 (w32 (s1 * (M 9 0 0)) + 1)) x2) fun M1 => ((0 : Int) ≤ w32 (w32 (4 * (M1 9 0 0)) + 2) ∧ w32 (w32 (4 * (M1 9 0 0)) + 2) < 32) ∧ bd (mset M1 9001 0 (w32 (w32 (4 * (M1 9 0 0)) + 2)) x3) fun M2 => ((0 : Int) ≤ w32 (w32 (4 * (M2 9 0 0)) + 3) ∧ w32 (w32 (4 * (M2 9 0 0)) + 3) < 32) ∧ bd (mset M2 9001 0 (w32 (w32 (4 * (M2 9 0 0)) + 3)) x4) fun M3 => ((0 : Int) ≤ M3 9 0 0 ∧ M3 9 0 0 < 8) ∧ bd (mset M3 9002 0 (M3 9 0 0) (nb x5)) fun M4 => ((0 : Int) ≤ M4 9 0 0 ∧ M4 9 0 0 < 8) ∧ bd (mset M4 9003 0 (M4 9 0 0) (nb 0)) fun M5 => ((0 : Int) ≤ M5 9 0 0 ∧ M5 9 0 0 < 8) ∧ bd (mset M5 9004 0 (M5 9 0 0) 0) fun M6 => bd (mset M6 9 0 0 (w32 (M6 9 0 0 + 1))) fun M7 => Q (.inl none) M7) :=
  (show Bq 384 de_384 (List.drop 12 bk_384_0) [vR 9 0, vI x1, vI x2, vI x3, vI x4, vI x5] [vR 9 0, vI s1, vR 9001 0] M Q ↔ (((0 : Int) ≤ w32 (w32 (s1 * (M 9 0 0)) + 1) ∧ w32 (w32 (s1 * (M 9 0 0)) + 1) < 32) ∧ bd (mset M 9001 0 (w32 (w32 (s1 * (M 9 0 0)) + 1)) x2) fun M1 => Bq 384 de_384 (List.drop 18 bk_384_0) [vR 9 0, vI x1, vI x2, vI x3, vI x4, vI x5] [] M1 Q) from Iff.rfl).trans (by simp only [t384_0_c18])
theorem t384_0_c6 {x1 x2 x3 x4 x5 s0 : Int} {M : Mem} {Q : AR → Mem → Prop} : Bq 384 de_384 (List.drop 6 bk_384_0) [vR 9 0, vI x1, vI x2, vI x3, vI x4, vI x5] [vI s0, vR 9001 0] M Q ↔ (((0 : Int) ≤ s0 ∧ s0 < 32) ∧ bd (mset M 9001 0 s0 x1) fun M1 => ((0 : Int) ≤ w32 (w32 (4 * (M1 9 0 0)) + 1) ∧ w32 (w32 (4 * (M1 9 0 0)) + 1) < 32) ∧ bd (mset M1 9001 0 (w32 (w32 (4 * (M1 9 0 0)) + 1)) x2) fun M2 => ((0 : Int) ≤ w32 (w32 (4 * (M2 9 0 0)) + 2) ∧ w32 (w32 (4 * (M2 9 0 0)) + 2) < 32) ∧ bd (mset M2 9001 0 (w32 (w32 (4 * (M2 9 0 0)) + 2)) x3) fun M3 => ((0 : Int) ≤ w32 (w32 (4 * (M3 9 0 0)) + 3) ∧ w32 (w32 (4 * (M3 9 0 0)) + 3) < 32) ∧ bd (mset M3 9001 0 (w32 (w32 (4 * (M3 9 0 0)) + 3)) x4) fun M4 => ((0 : Int) ≤ M4 9 0 0 ∧ M4 9 0 0 < 8) ∧ bd (mset M4 9002 0 (M4 9 0 0) (nb x5)) fun M5 => ((0 : Int) ≤ M5 9 0 0 ∧ M5 9 0 0 < 8) ∧ bd (mset M5 9003 0 (M5 9 0 0) (nb 0)) fun M6 => ((0 : Int) ≤ M6 9 0 0 ∧ M6 9 0 0 < 8) ∧ bd (mset M6 9004 0 (M6 9 0 0) 0) fun M7 => bd (mset M7 9 0 0 (w32 (M7 9 0 0 + 1))) fun M8 => Q (.inl none) M8) :=
  (show Bq 384 de_384 (List.drop 6 bk_384_0) [vR 9 0, vI x1, vI x2, vI x3, vI x4, vI x5] [vI s0, vR 9001 0] M Q ↔ (((0 : Int) ≤ s0 ∧ s0 < 32) ∧ bd (mset M 9001 0 s0 x1) fun M1 => Bq 384 de_384 (List.drop 12 bk_384_0) [vR 9 0, vI x1, vI x2, vI x3, vI x4, vI x5] [vR 9 0, vI 4, vR 9001 0] M1 Q) from Iff.rfl).trans (by simp only [t384_0_c12])
theorem t384_0 {x1 x2 x3 x4 x5 : Int} {M : Mem} {Q : AR → Mem → Prop} : Tq 384 0 [vR 9 0, vI x1, vI x2, vI x3, vI x4, vI x5] [] M Q ↔ (((0 : Int) ≤ w32 (4 * (M 9 0 0)) ∧ w32 (4 * (M 9 0 0)) < 32) ∧ bd (mset M 9001 0 (w32 (4 * (M 9 0 0))) x1) fun M1 => ((0 : Int) ≤ w32 (w32 (4 * (M1 9 0 0)) + 1) ∧ w32 (w32 (4 * (M1 9 0 0)) + 1) < 32) ∧ bd (mset M1 9001 0 (w32 (w32 (4 * (M1 9 0 0)) + 1)) x2) fun M2 => ((0 : Int) ≤ w32 (w32 (4 * (M2 9 0 0)) + 2) ∧ w32 (w32 (4 * (M2 9 0 0)) + 2) < 32) ∧ bd (mset M2 9001 0 (w32 (w32 (4 * (M2 9 0 0)) + 2)) x3) fun M3 => ((0 : Int) ≤ w32 (w32 (4 * (M3 9 0 0)) + 3) ∧ w32 (w32 (4 * (M3 9 0 0)) + 3) < 32) ∧ bd (mset M3 9001 0 (w32 (w32 (4 * (M3 9 0 0)) + 3)) x4) fun M4 => ((0 : Int) ≤ M4 9 0 0 ∧ M4 9 0 0 < 8) ∧ bd (mset M4 9002 0 (M4 9 0 0) (nb x5)) fun M5 => ((0 : Int) ≤ M5 9 0 0 ∧ M5 9 0 0 < 8) ∧ bd (mset M5 9003 0 (M5 9 0 0) (nb 0)) fun M6 => ((0 : Int) ≤ M6 9 0 0 ∧ M6 9 0 0 < 8) ∧ bd (mset M6 9004 0 (M6 9 0 0) 0) fun M7 => bd (mset M7 9 0 0 (w32 (M7 9 0 0 + 1))) fun M8 => Q (.inl none) M8) :=
  (show Tq 384 0 [vR 9 0, vI x1, vI x2, vI x3, vI x4, vI x5] [] M Q ↔ (Bq 384 de_384 (List.drop 6 bk_384_0) [vR 9 0, vI x1, vI x2, vI x3, vI x4, vI x5] [vI (w32 (4 * (M 9 0 0))), vR 9001 0] M Q) from Tq_blk (is := bk_384_0) (dd := de_384) rfl rfl).trans (by simp only [t384_0_c6])
/-- EarthOffice$Alerts warn block at 0 -/
theorem t385_0 {x2 : Int} {M : Mem} {Q : AR → Mem → Prop} : Tq 385 0 [vR 9 0, vR 4 0, vI x2, vJ, vJ] [] M Q ↔ (Tq 364 0 [vR 6 0, vJ, vJ] [] M (kI fun v1 M1 => Tq 385 1 [vR 9 0, vR 4 0, vI x2, vI v1, vI 0] [] M1 Q)) :=
  Tq_blk (is := bk_385_0) (dd := de_385) rfl rfl
/-- EarthOffice$Alerts warn block at 11 -/
theorem t385_1 {x2 x3 x4 : Int} {M : Mem} {Q : AR → Mem → Prop} : Tq 385 1 [vR 9 0, vR 4 0, vI x2, vI x3, vI x4] [] M Q ↔ (if M 9 0 0 ≤ x4 then Tq 385 4 [vJ, vJ, vJ, vJ, vJ] [] M Q else ((0 : Int) ≤ x4 ∧ x4 < 8) ∧ if ¬ M 9002 0 x4 = M 9 0 5 then Tq 385 3 [vR 9 0, vR 4 0, vI x2, vI x3, vI x4] [] M Q else if x3 = (-99999999) then Tq 385 2 [vR 9 0, vR 4 0, vI x2, vI x3, vI x4] [] M Q else ((0 : Int) ≤ x3 ∧ x3 < 24) ∧ Tq 386 0 [vR 9 0, vI x4, vR 7 x3] [] M (kI fun v1 M1 => if v1 = 0 then Tq 385 3 [vR 9 0, vR 4 0, vI x2, vI x3, vI x4] [] M1 Q else Tq 385 2 [vR 9 0, vR 4 0, vI x2, vI x3, vI x4] [] M1 Q)) :=
  Tq_blk (is := bk_385_1) (dd := de_385) rfl rfl
/-- EarthOffice$Alerts warn block at 58 -/
theorem t385_2 {x2 x3 x4 : Int} {M : Mem} {Q : AR → Mem → Prop} : Tq 385 2 [vR 9 0, vR 4 0, vI x2, vI x3, vI x4] [] M Q ↔ (Tq 387 0 [vR 9 0, vR 4 0, vI x2, vI x4, vI x3, vJ, vJ, vJ] [] M (kV fun M1 => Tq 385 3 [vR 9 0, vR 4 0, vI x2, vI x3, vI x4] [] M1 Q)) :=
  Tq_blk (is := bk_385_2) (dd := de_385) rfl rfl
/-- EarthOffice$Alerts warn block at 67 -/
theorem t385_3 {x2 x3 x4 : Int} {M : Mem} {Q : AR → Mem → Prop} : Tq 385 3 [vR 9 0, vR 4 0, vI x2, vI x3, vI x4] [] M Q ↔ (Tq 385 1 [vR 9 0, vR 4 0, vI x2, vI x3, vI (w32 (x4 + 1))] [] M Q) :=
  Tq_blk (is := bk_385_3) (dd := de_385) rfl rfl
/-- EarthOffice$Alerts warn block at 73 -/
theorem t385_4 {M : Mem} {Q : AR → Mem → Prop} : Tq 385 4 [vJ, vJ, vJ, vJ, vJ] [] M Q ↔ (Q (.inl none) M) :=
  Tq_blk (is := bk_385_4) (dd := de_385) rfl rfl
/-- EarthOffice$Alerts isIn block at 0 -/
theorem t386_0 {x1 x2 : Int} {M : Mem} {Q : AR → Mem → Prop} : Tq 386 0 [vR 9 0, vI x1, vR 7 x2] [] M Q ↔ (Tq 369 0 [vR 7 x2, vI 1] [] M (kI fun v1 M1 => ((0 : Int) ≤ w32 (4 * x1) ∧ w32 (4 * x1) < 32) ∧ ((0 : Int) ≤ w32 (w32 (4 * x1) + 2) ∧ w32 (w32 (4 * x1) + 2) < 32) ∧ Tq 25 0 [vI v1, vI (M1 9001 0 (w32 (4 * x1))), vI (M1 9001 0 (w32 (w32 (4 * x1) + 2)))] [] M1 (kI fun v2 M2 => if v2 = 0 then Tq 386 1 [vJ, vJ, vJ] [] M2 Q else Tq 369 0 [vR 7 x2, vI 2] [] M2 (kI fun v3 M3 => ((0 : Int) ≤ w32 (w32 (4 * x1) + 1) ∧ w32 (w32 (4 * x1) + 1) < 32) ∧ ((0 : Int) ≤ w32 (w32 (4 * x1) + 3) ∧ w32 (w32 (4 * x1) + 3) < 32) ∧ Tq 25 0 [vI v3, vI (M3 9001 0 (w32 (w32 (4 * x1) + 1))), vI (M3 9001 0 (w32 (w32 (4 * x1) + 3)))] [] M3 (kI fun v4 M4 => if v4 = 0 then Tq 386 1 [vJ, vJ, vJ] [] M4 Q else Tq 386 2 [vJ, vJ, vJ] [vI 1] M4 Q))))) :=
  Tq_blk (is := bk_386_0) (dd := de_386) rfl rfl
/-- EarthOffice$Alerts isIn block at 64 -/
theorem t386_1 {M : Mem} {Q : AR → Mem → Prop} : Tq 386 1 [vJ, vJ, vJ] [] M Q ↔ (Tq 386 2 [vJ, vJ, vJ] [vI 0] M Q) :=
  Tq_blk (is := bk_386_1) (dd := de_386) rfl rfl
/-- EarthOffice$Alerts isIn block at 65 -/
theorem t386_2 {s0 : Int} {M : Mem} {Q : AR → Mem → Prop} : Tq 386 2 [vJ, vJ, vJ] [vI s0] M Q ↔ (Q (.inl (some (vI (nb s0)))) M) :=
  Tq_blk (is := bk_386_2) (dd := de_386) rfl rfl
/-- EarthOffice$Alerts make block at 0 -/
theorem t387_0 {x2 x3 x4 : Int} {M : Mem} {Q : AR → Mem → Prop} : Tq 387 0 [vR 9 0, vR 4 0, vI x2, vI x3, vI x4, vJ, vJ, vJ] [] M Q ↔ (if ¬ M 9 0 6 = (200 : Int) then Tq 387 1 [vR 9 0, vR 4 0, vI x2, vI x3, vI x4, vJ, vJ, vJ] [] M Q else bd (mset M 9 0 7 (w32 (M 9 0 7 + 1))) fun M1 => Q (.inl none) M1) :=
  Tq_blk (is := bk_387_0) (dd := de_387) rfl rfl
/-- EarthOffice$Alerts make block at 21 -/
theorem t387_1 {x2 x3 x4 : Int} {M : Mem} {Q : AR → Mem → Prop} : Tq 387 1 [vR 9 0, vR 4 0, vI x2, vI x3, vI x4, vJ, vJ, vJ] [] M Q ↔ (((0 : Int) ≤ M 9 0 6 ∧ M 9 0 6 < 200) ∧ bd (mset M 9008 0 (M 9 0 6) x3) fun M1 => ((0 : Int) ≤ M1 9 0 6 ∧ M1 9 0 6 < 200) ∧ bd (mset M1 9009 0 (M1 9 0 6) x2) fun M2 => ((0 : Int) ≤ M2 9 0 6 ∧ M2 9 0 6 < 200) ∧ bd (mset M2 9010 0 (M2 9 0 6) (M2 4 0 10)) fun M3 => ((0 : Int) ≤ M3 9 0 6 ∧ M3 9 0 6 < 200) ∧ bd (mset M3 9011 0 (M3 9 0 6) 0) fun M4 => ((0 : Int) ≤ M4 9 0 6 ∧ M4 9 0 6 < 200) ∧ bd (mset M4 9012 0 (M4 9 0 6) 0) fun M5 => ((0 : Int) ≤ M5 9 0 6 ∧ M5 9 0 6 < 200) ∧ bd (mset M5 9013 0 (M5 9 0 6) 0) fun M6 => ((0 : Int) ≤ M6 9 0 6 ∧ M6 9 0 6 < 200) ∧ bd (mset M6 9014 0 (M6 9 0 6) 0) fun M7 => ((0 : Int) ≤ x2 ∧ x2 < 8) ∧ Tq 387 2 [vR 9 0, vR 4 0, vI x2, vI x3, vI x4, vR 13 (7 + x2), vI 0, vJ] [] M7 Q) :=
  Tq_blk (is := bk_387_1) (dd := de_387) rfl rfl
/-- EarthOffice$Alerts make block at 108 -/
theorem t387_2 {x2 x3 x4 x5 x6 : Int} {M : Mem} {Q : AR → Mem → Prop} : Tq 387 2 [vR 9 0, vR 4 0, vI x2, vI x3, vI x4, vR 13 x5, vI x6, vJ] [] M Q ↔ (if M 13 x5 1 ≤ x6 then Tq 387 6 [vR 9 0, vJ, vJ, vJ, vJ, vJ, vJ, vJ] [] M Q else Tq 114 0 [vR 13 x5, vI x6] [] M (kI fun v1 M1 => if ¬ v1 = (123 : Int) then Tq 387 5 [vR 9 0, vR 4 0, vI x2, vI x3, vI x4, vR 13 x5, vI x6, vJ] [] M1 Q else Tq 387 3 [vR 9 0, vR 4 0, vI x2, vI x3, vI x4, vR 13 x5, vI x6, vI (w32 (x6 + 1))] [] M1 Q)) :=
  Tq_blk (is := bk_387_2) (dd := de_387) rfl rfl
/-- EarthOffice$Alerts make block at 136 -/
theorem t387_3 {x2 x3 x4 x5 x6 x7 : Int} {M : Mem} {Q : AR → Mem → Prop} : Tq 387 3 [vR 9 0, vR 4 0, vI x2, vI x3, vI x4, vR 13 x5, vI x6, vI x7] [] M Q ↔ (Tq 114 0 [vR 13 x5, vI x7] [] M (kI fun v1 M1 => if v1 = (125 : Int) then Tq 387 4 [vR 9 0, vR 4 0, vI x2, vI x3, vI x4, vR 13 x5, vI x6, vI x7] [] M1 Q else Tq 387 3 [vR 9 0, vR 4 0, vI x2, vI x3, vI x4, vR 13 x5, vI x6, vI (w32 (x7 + 1))] [] M1 Q)) :=
  Tq_blk (is := bk_387_3) (dd := de_387) rfl rfl
/-- EarthOffice$Alerts make block at 154 -/
theorem t387_4 {x2 x3 x4 x5 x6 x7 : Int} {M : Mem} {Q : AR → Mem → Prop} : Tq 387 4 [vR 9 0, vR 4 0, vI x2, vI x3, vI x4, vR 13 x5, vI x6, vI x7] [] M Q ↔ (Tq 413 0 [vR 10 0, vR 13 x5, vI (w32 (x6 + 1)), vI x7] [] M (kI fun v1 M1 => Tq 388 0 [vR 9 0, vR 4 0, vI v1, vI x2, vI x3, vI x4, vJ, vJ, vJ] [] M1 (kV fun M2 => Tq 387 2 [vR 9 0, vR 4 0, vI x2, vI x3, vI x4, vR 13 x5, vI (w32 (x7 + 1)), vJ] [] M2 Q))) :=
  Tq_blk (is := bk_387_4) (dd := de_387) rfl rfl
/-- EarthOffice$Alerts make block at 187 -/
theorem t387_5 {x2 x3 x4 x5 x6 : Int} {M : Mem} {Q : AR → Mem → Prop} : Tq 387 5 [vR 9 0, vR 4 0, vI x2, vI x3, vI x4, vR 13 x5, vI x6, vJ] [] M Q ↔ (Tq 114 0 [vR 13 x5, vI x6] [] M (kI fun v1 M1 => Tq 390 0 [vR 9 0, vI v1] [] M1 (kV fun M2 => Tq 387 2 [vR 9 0, vR 4 0, vI x2, vI x3, vI x4, vR 13 x5, vI (w32 (x6 + 1)), vJ] [] M2 Q))) :=
  Tq_blk (is := bk_387_5) (dd := de_387) rfl rfl
/-- EarthOffice$Alerts make block at 204 -/
theorem t387_6 {M : Mem} {Q : AR → Mem → Prop} : Tq 387 6 [vR 9 0, vJ, vJ, vJ, vJ, vJ, vJ, vJ] [] M Q ↔ (bd (mset M 9 0 6 (w32 (M 9 0 6 + 1))) fun M1 => Q (.inl none) M1) :=
  Tq_blk (is := bk_387_6) (dd := de_387) rfl rfl
/-- EarthOffice$Alerts put block at 0 -/
theorem t388_0 {x2 x3 x4 x5 : Int} {M : Mem} {Q : AR → Mem → Prop} : Tq 388 0 [vR 9 0, vR 4 0, vI x2, vI x3, vI x4, vI x5, vJ, vJ, vJ] [] M Q ↔ (if ¬ x2 = (8 : Int) then Tq 388 1 [vR 9 0, vR 4 0, vI x2, vJ, vI x4, vI x5, vJ, vJ, vJ] [] M Q else Tq 388 6 [vR 9 0, vJ, vJ, vJ, vJ, vJ, vJ, vJ, vJ] [vI x3] M Q) :=
  Tq_blk (is := bk_388_0) (dd := de_388) rfl rfl
/-- EarthOffice$Alerts put block at 10 -/
theorem t388_1 {x2 x4 x5 : Int} {M : Mem} {Q : AR → Mem → Prop} : Tq 388 1 [vR 9 0, vR 4 0, vI x2, vJ, vI x4, vI x5, vJ, vJ, vJ] [] M Q ↔ (if ¬ x2 = (9 : Int) then Tq 388 2 [vR 9 0, vR 4 0, vI x2, vJ, vI x4, vI x5, vJ, vJ, vJ] [] M Q else Tq 388 6 [vR 9 0, vJ, vJ, vJ, vJ, vJ, vJ, vJ, vJ] [vI x4] M Q) :=
  Tq_blk (is := bk_388_1) (dd := de_388) rfl rfl
/-- EarthOffice$Alerts put block at 21 -/
theorem t388_2 {x2 x4 x5 : Int} {M : Mem} {Q : AR → Mem → Prop} : Tq 388 2 [vR 9 0, vR 4 0, vI x2, vJ, vI x4, vI x5, vJ, vJ, vJ] [] M Q ↔ (if ¬ x2 = (10 : Int) then Tq 388 3 [vR 9 0, vR 4 0, vI x2, vJ, vJ, vI x5, vJ, vJ, vJ] [] M Q else Tq 389 0 [vR 9 0, vR 4 0, vI x4, vI x5, vJ, vJ, vJ, vJ] [] M (kI fun v1 M1 => Tq 388 6 [vR 9 0, vJ, vJ, vJ, vJ, vJ, vJ, vJ, vJ] [vI v1] M1 Q)) :=
  Tq_blk (is := bk_388_2) (dd := de_388) rfl rfl
/-- EarthOffice$Alerts put block at 39 -/
theorem t388_3 {x2 x5 : Int} {M : Mem} {Q : AR → Mem → Prop} : Tq 388 3 [vR 9 0, vR 4 0, vI x2, vJ, vJ, vI x5, vJ, vJ, vJ] [] M Q ↔ (if ¬ x2 = (7 : Int) then Tq 388 4 [vR 9 0, vJ, vI x2, vJ, vJ, vI x5, vJ, vJ, vJ] [vR 4 0] M Q else Tq 388 5 [vR 9 0, vJ, vJ, vJ, vJ, vI x5, vJ, vJ, vJ] [vI 9, vR 4 0] M Q) :=
  Tq_blk (is := bk_388_3) (dd := de_388) rfl rfl
/-- EarthOffice$Alerts put block at 51 -/
theorem t388_4 {x2 x5 : Int} {M : Mem} {Q : AR → Mem → Prop} : Tq 388 4 [vR 9 0, vJ, vI x2, vJ, vJ, vI x5, vJ, vJ, vJ] [vR 4 0] M Q ↔ (Tq 388 5 [vR 9 0, vJ, vJ, vJ, vJ, vI x5, vJ, vJ, vJ] [vI (w32 (1 + x2)), vR 4 0] M Q) :=
  Tq_blk (is := bk_388_4) (dd := de_388) rfl rfl
/-- EarthOffice$Alerts put block at 54 -/
theorem t388_5 {x5 s0 : Int} {M : Mem} {Q : AR → Mem → Prop} : Tq 388 5 [vR 9 0, vJ, vJ, vJ, vJ, vI x5, vJ, vJ, vJ] [vI s0, vR 4 0] M Q ↔ (Tq 344 0 [vR 4 0, vI s0, vI 0, vI 0, vI x5] [] M (kI fun v1 M1 => Tq 388 6 [vR 9 0, vJ, vJ, vJ, vJ, vJ, vJ, vJ, vJ] [vI v1] M1 Q)) :=
  Tq_blk (is := bk_388_5) (dd := de_388) rfl rfl
/-- EarthOffice$Alerts put block at 61 -/
theorem t388_6 {s0 : Int} {M : Mem} {Q : AR → Mem → Prop} : Tq 388 6 [vR 9 0, vJ, vJ, vJ, vJ, vJ, vJ, vJ, vJ] [vI s0] M Q ↔ (if 0 ≤ s0 then Tq 388 7 [vR 9 0, vJ, vJ, vJ, vJ, vJ, vI s0, vJ, vJ] [] M Q else Tq 390 0 [vR 9 0, vI 45] [] M (kV fun M1 => Tq 388 7 [vR 9 0, vJ, vJ, vJ, vJ, vJ, vI s0, vJ, vJ] [] M1 Q)) :=
  Tq_blk (is := bk_388_6) (dd := de_388) rfl rfl
/-- EarthOffice$Alerts put block at 74 -/
theorem t388_7 {x6 : Int} {M : Mem} {Q : AR → Mem → Prop} : Tq 388 7 [vR 9 0, vJ, vJ, vJ, vJ, vJ, vI x6, vJ, vJ] [] M Q ↔ (Tq 13 0 [vI x6] [] M (kI fun v1 M1 => Tq 388 8 [vR 9 0, vJ, vJ, vJ, vJ, vJ, vJ, vI v1, vI 1] [] M1 Q)) :=
  Tq_blk (is := bk_388_7) (dd := de_388) rfl rfl
/-- EarthOffice$Alerts put block at 84 -/
theorem t388_8 {x7 x8 : Int} {M : Mem} {Q : AR → Mem → Prop} : Tq 388 8 [vR 9 0, vJ, vJ, vJ, vJ, vJ, vJ, vI x7, vI x8] [] M Q ↔ ((¬ x8 = 0) ∧ if div32 x7 x8 ≤ (9 : Int) then Tq 388 9 [vR 9 0, vJ, vJ, vJ, vJ, vJ, vJ, vI x7, vI x8] [] M Q else Tq 388 8 [vR 9 0, vJ, vJ, vJ, vJ, vJ, vJ, vI x7, vI (w32 (x8 * 10))] [] M Q) :=
  Tq_blk (is := bk_388_8) (dd := de_388) rfl rfl
/-- EarthOffice$Alerts put block at 104 -/
theorem t388_9_c11 {x7 x8 : Int} {M : Mem} {Q : AR → Mem → Prop} : Bq 388 de_388 (List.drop 11 bk_388_9) [vR 9 0, vJ, vJ, vJ, vJ, vJ, vJ, vI x7, vI x8] [] M Q ↔ ((¬ (10 : Int) = 0) ∧ Tq 388 9 [vR 9 0, vJ, vJ, vJ, vJ, vJ, vJ, vI x7, vI (div32 x8 10)] [] M Q) :=
  Iff.rfl
theorem t388_9_c6 {x7 x8 s0 s1 s2 : Int} {M : Mem} {Q : AR → Mem → Prop} : Bq 388 de_388 (List.drop 6 bk_388_9) [vR 9 0, vJ, vJ, vJ, vJ, vJ, vJ, vI x7, vI x8] [vI s0, vI s1, vI s2, vR 9 0] M Q ↔ ((¬ s0 = 0) ∧ (¬ (10 : Int) = 0) ∧ Tq 390 0 [vR 9 0, vI (w32 (s2 + rem32 (div32 s1 s0) 10))] [] M (kV fun M1 => (¬ (10 : Int) = 0) ∧ Tq 388 9 [vR 9 0, vJ, vJ, vJ, vJ, vJ, vJ, vI x7, vI (div32 x8 10)] [] M1 Q)) :=
  (show Bq 388 de_388 (List.drop 6 bk_388_9) [vR 9 0, vJ, vJ, vJ, vJ, vJ, vJ, vI x7, vI x8] [vI s0, vI s1, vI s2, vR 9 0] M Q ↔ ((¬ s0 = 0) ∧ (¬ (10 : Int) = 0) ∧ Tq 390 0 [vR 9 0, vI (w32 (s2 + rem32 (div32 s1 s0) 10))] [] M (kV fun M1 => Bq 388 de_388 (List.drop 11 bk_388_9) [vR 9 0, vJ, vJ, vJ, vJ, vJ, vJ, vI x7, vI x8] [] M1 Q)) from Iff.rfl).trans (by simp only [t388_9_c11])
theorem t388_9 {x7 x8 : Int} {M : Mem} {Q : AR → Mem → Prop} : Tq 388 9 [vR 9 0, vJ, vJ, vJ, vJ, vJ, vJ, vI x7, vI x8] [] M Q ↔ (if x8 ≤ 0 then Tq 388 10 [vJ, vJ, vJ, vJ, vJ, vJ, vJ, vJ, vJ] [] M Q else (¬ x8 = 0) ∧ (¬ (10 : Int) = 0) ∧ Tq 390 0 [vR 9 0, vI (w32 (48 + rem32 (div32 x7 x8) 10))] [] M (kV fun M1 => (¬ (10 : Int) = 0) ∧ Tq 388 9 [vR 9 0, vJ, vJ, vJ, vJ, vJ, vJ, vI x7, vI (div32 x8 10)] [] M1 Q)) :=
  (show Tq 388 9 [vR 9 0, vJ, vJ, vJ, vJ, vJ, vJ, vI x7, vI x8] [] M Q ↔ (if x8 ≤ 0 then Tq 388 10 [vJ, vJ, vJ, vJ, vJ, vJ, vJ, vJ, vJ] [] M Q else Bq 388 de_388 (List.drop 6 bk_388_9) [vR 9 0, vJ, vJ, vJ, vJ, vJ, vJ, vI x7, vI x8] [vI x8, vI x7, vI 48, vR 9 0] M Q) from Tq_blk (is := bk_388_9) (dd := de_388) rfl rfl).trans (by simp only [t388_9_c6])
/-- EarthOffice$Alerts put block at 134 -/
theorem t388_10 {M : Mem} {Q : AR → Mem → Prop} : Tq 388 10 [vJ, vJ, vJ, vJ, vJ, vJ, vJ, vJ, vJ] [] M Q ↔ (Q (.inl none) M) :=
  Tq_blk (is := bk_388_10) (dd := de_388) rfl rfl
/-- EarthOffice$Alerts wait block at 0 -/
theorem t389_0 {x2 x3 : Int} {M : Mem} {Q : AR → Mem → Prop} : Tq 389 0 [vR 9 0, vR 4 0, vI x2, vI x3, vJ, vJ, vJ, vJ] [] M Q ↔ (if ¬ x3 = (-99999999) then Tq 389 1 [vR 9 0, vR 4 0, vI x2, vI x3, vJ, vJ, vJ, vJ] [] M Q else Q (.inl (some (vI 0))) M) :=
  Tq_blk (is := bk_389_0) (dd := de_389) rfl rfl
/-- EarthOffice$Alerts wait block at 8 -/
theorem t389_1_c66 {x2 x3 x4 x5 x6 x7 s0 s1 s2 : Int} {M : Mem} {Q : AR → Mem → Prop} : Bq 389 de_389 (List.drop 66 bk_389_1) [vR 9 0, vR 4 0, vI x2, vI x3, vR 7 x4, vI x5, vI x6, vI x7] [vI s0, vI s1, vI s2] M Q ↔ (Tq 9 0 [vI s2, vI (w32 (w32 (s1 + s0) - (M 4 0 10)))] [] M (kI fun v1 M1 => Q (.inl (some (vI v1))) M1)) :=
  Iff.rfl
theorem t389_1_c64 {x2 x3 x4 x5 x6 x7 s0 s1 s2 s3 s5 s6 : Int} {M : Mem} {Q : AR → Mem → Prop} : Bq 389 de_389 (List.drop 64 bk_389_1) [vR 9 0, vR 4 0, vI x2, vI x3, vR 7 x4, vI x5, vI x6, vI x7] [vI s0, vR 7 s1, vI s2, vI s3, vR 3 0, vI s5, vI s6] M Q ↔ (Tq 369 0 [vR 7 s1, vI s0] [] M (kI fun v1 M1 => Tq 162 0 [vR 3 0, vI s3, vI s2, vI v1] [] M1 (kI fun v2 M2 => Tq 9 0 [vI s6, vI (w32 (w32 (s5 + v2) - (M2 4 0 10)))] [] M2 (kI fun v3 M3 => Q (.inl (some (vI v3))) M3)))) :=
  (show Bq 389 de_389 (List.drop 64 bk_389_1) [vR 9 0, vR 4 0, vI x2, vI x3, vR 7 x4, vI x5, vI x6, vI x7] [vI s0, vR 7 s1, vI s2, vI s3, vR 3 0, vI s5, vI s6] M Q ↔ (Tq 369 0 [vR 7 s1, vI s0] [] M (kI fun v1 M1 => Tq 162 0 [vR 3 0, vI s3, vI s2, vI v1] [] M1 (kI fun v2 M2 => Bq 389 de_389 (List.drop 66 bk_389_1) [vR 9 0, vR 4 0, vI x2, vI x3, vR 7 x4, vI x5, vI x6, vI x7] [vI v2, vI s5, vI s6] M2 Q))) from Iff.rfl).trans (by simp only [t389_1_c66])
theorem t389_1_c58 {x2 x3 x4 x5 x6 x7 s0 s1 : Int} {M : Mem} {Q : AR → Mem → Prop} : Bq 389 de_389 (List.drop 58 bk_389_1) [vR 9 0, vR 4 0, vI x2, vI x3, vR 7 x4, vI x5, vI x6, vI x7] [vI s0, vI s1] M Q ↔ (Tq 369 0 [vR 7 x4, vI 3] [] M (kI fun v1 M1 => Tq 162 0 [vR 3 0, vI 1, vI x7, vI v1] [] M1 (kI fun v2 M2 => Tq 9 0 [vI s1, vI (w32 (w32 (s0 + v2) - (M2 4 0 10)))] [] M2 (kI fun v3 M3 => Q (.inl (some (vI v3))) M3)))) :=
  (show Bq 389 de_389 (List.drop 58 bk_389_1) [vR 9 0, vR 4 0, vI x2, vI x3, vR 7 x4, vI x5, vI x6, vI x7] [vI s0, vI s1] M Q ↔ (Bq 389 de_389 (List.drop 64 bk_389_1) [vR 9 0, vR 4 0, vI x2, vI x3, vR 7 x4, vI x5, vI x6, vI x7] [vI 3, vR 7 x4, vI x7, vI 1, vR 3 0, vI s0, vI s1] M Q) from Iff.rfl).trans (by simp only [t389_1_c64])
theorem t389_1_c53 {x2 x3 x4 x5 x6 s0 : Int} {M : Mem} {Q : AR → Mem → Prop} : Bq 389 de_389 (List.drop 53 bk_389_1) [vR 9 0, vR 4 0, vI x2, vI x3, vR 7 x4, vI x5, vI x6, vJ] [vI s0] M Q ↔ (Tq 369 0 [vR 7 x4, vI 4] [] M (kI fun v1 M1 => Tq 369 0 [vR 7 x4, vI 3] [] M1 (kI fun v2 M2 => Tq 162 0 [vR 3 0, vI 1, vI s0, vI v2] [] M2 (kI fun v3 M3 => Tq 9 0 [vI 0, vI (w32 (w32 (v1 + v3) - (M3 4 0 10)))] [] M3 (kI fun v4 M4 => Q (.inl (some (vI v4))) M4))))) :=
  (show Bq 389 de_389 (List.drop 53 bk_389_1) [vR 9 0, vR 4 0, vI x2, vI x3, vR 7 x4, vI x5, vI x6, vJ] [vI s0] M Q ↔ (Tq 369 0 [vR 7 x4, vI 4] [] M (kI fun v1 M1 => Bq 389 de_389 (List.drop 58 bk_389_1) [vR 9 0, vR 4 0, vI x2, vI x3, vR 7 x4, vI x5, vI x6, vI s0] [vI v1, vI 0] M1 Q)) from Iff.rfl).trans (by simp only [t389_1_c58])
theorem t389_1_c50 {x2 x3 x4 x5 x6 s0 s1 : Int} {M : Mem} {Q : AR → Mem → Prop} : Bq 389 de_389 (List.drop 50 bk_389_1) [vR 9 0, vR 4 0, vI x2, vI x3, vR 7 x4, vI x5, vI x6, vJ] [vI s0, vI s1] M Q ↔ (Tq 61 0 [vI s1, vI s0, vI x5, vI x6] [] M (kI fun v1 M1 => Tq 369 0 [vR 7 x4, vI 4] [] M1 (kI fun v2 M2 => Tq 369 0 [vR 7 x4, vI 3] [] M2 (kI fun v3 M3 => Tq 162 0 [vR 3 0, vI 1, vI v1, vI v3] [] M3 (kI fun v4 M4 => Tq 9 0 [vI 0, vI (w32 (w32 (v2 + v4) - (M4 4 0 10)))] [] M4 (kI fun v5 M5 => Q (.inl (some (vI v5))) M5)))))) :=
  (show Bq 389 de_389 (List.drop 50 bk_389_1) [vR 9 0, vR 4 0, vI x2, vI x3, vR 7 x4, vI x5, vI x6, vJ] [vI s0, vI s1] M Q ↔ (Tq 61 0 [vI s1, vI s0, vI x5, vI x6] [] M (kI fun v1 M1 => Bq 389 de_389 (List.drop 53 bk_389_1) [vR 9 0, vR 4 0, vI x2, vI x3, vR 7 x4, vI x5, vI x6, vJ] [vI v1] M1 Q)) from Iff.rfl).trans (by simp only [t389_1_c53])
theorem t389_1_c47 {x2 x3 x4 x5 x6 s0 : Int} {M : Mem} {Q : AR → Mem → Prop} : Bq 389 de_389 (List.drop 47 bk_389_1) [vR 9 0, vR 4 0, vI x2, vI x3, vR 7 x4, vI x5, vI x6, vJ] [vI s0] M Q ↔ (Tq 369 0 [vR 7 x4, vI 2] [] M (kI fun v1 M1 => Tq 61 0 [vI s0, vI v1, vI x5, vI x6] [] M1 (kI fun v2 M2 => Tq 369 0 [vR 7 x4, vI 4] [] M2 (kI fun v3 M3 => Tq 369 0 [vR 7 x4, vI 3] [] M3 (kI fun v4 M4 => Tq 162 0 [vR 3 0, vI 1, vI v2, vI v4] [] M4 (kI fun v5 M5 => Tq 9 0 [vI 0, vI (w32 (w32 (v3 + v5) - (M5 4 0 10)))] [] M5 (kI fun v6 M6 => Q (.inl (some (vI v6))) M6))))))) :=
  (show Bq 389 de_389 (List.drop 47 bk_389_1) [vR 9 0, vR 4 0, vI x2, vI x3, vR 7 x4, vI x5, vI x6, vJ] [vI s0] M Q ↔ (Tq 369 0 [vR 7 x4, vI 2] [] M (kI fun v1 M1 => Bq 389 de_389 (List.drop 50 bk_389_1) [vR 9 0, vR 4 0, vI x2, vI x3, vR 7 x4, vI x5, vI x6, vJ] [vI v1, vI s0] M1 Q)) from Iff.rfl).trans (by simp only [t389_1_c50])
theorem t389_1_c42 {x2 x3 x4 x5 s0 s1 : Int} {M : Mem} {Q : AR → Mem → Prop} : Bq 389 de_389 (List.drop 42 bk_389_1) [vR 9 0, vR 4 0, vI x2, vI x3, vR 7 x4, vI x5, vJ, vJ] [vI s0, vI s1] M Q ↔ ((¬ s0 = 0) ∧ Tq 369 0 [vR 7 x4, vI 1] [] M (kI fun v1 M1 => Tq 369 0 [vR 7 x4, vI 2] [] M1 (kI fun v2 M2 => Tq 61 0 [vI v1, vI v2, vI x5, vI (div32 s1 s0)] [] M2 (kI fun v3 M3 => Tq 369 0 [vR 7 x4, vI 4] [] M3 (kI fun v4 M4 => Tq 369 0 [vR 7 x4, vI 3] [] M4 (kI fun v5 M5 => Tq 162 0 [vR 3 0, vI 1, vI v3, vI v5] [] M5 (kI fun v6 M6 => Tq 9 0 [vI 0, vI (w32 (w32 (v4 + v6) - (M6 4 0 10)))] [] M6 (kI fun v7 M7 => Q (.inl (some (vI v7))) M7)))))))) :=
  (show Bq 389 de_389 (List.drop 42 bk_389_1) [vR 9 0, vR 4 0, vI x2, vI x3, vR 7 x4, vI x5, vJ, vJ] [vI s0, vI s1] M Q ↔ ((¬ s0 = 0) ∧ Tq 369 0 [vR 7 x4, vI 1] [] M (kI fun v1 M1 => Bq 389 de_389 (List.drop 47 bk_389_1) [vR 9 0, vR 4 0, vI x2, vI x3, vR 7 x4, vI x5, vI (div32 s1 s0), vJ] [vI v1] M1 Q)) from Iff.rfl).trans (by simp only [t389_1_c47])
theorem t389_1_c36 {x2 x3 x4 x5 s0 s1 s3 : Int} {M : Mem} {Q : AR → Mem → Prop} : Bq 389 de_389 (List.drop 36 bk_389_1) [vR 9 0, vR 4 0, vI x2, vI x3, vR 7 x4, vI x5, vJ, vJ] [vI s0, vI s1, vR 9001 0, vI s3] M Q ↔ (((0 : Int) ≤ w32 (w32 (s1 * s0) + 3) ∧ w32 (w32 (s1 * s0) + 3) < 32) ∧ (¬ (2 : Int) = 0) ∧ Tq 369 0 [vR 7 x4, vI 1] [] M (kI fun v1 M1 => Tq 369 0 [vR 7 x4, vI 2] [] M1 (kI fun v2 M2 => Tq 61 0 [vI v1, vI v2, vI x5, vI (div32 (w32 (s3 + M 9001 0 (w32 (w32 (s1 * s0) + 3)))) 2)] [] M2 (kI fun v3 M3 => Tq 369 0 [vR 7 x4, vI 4] [] M3 (kI fun v4 M4 => Tq 369 0 [vR 7 x4, vI 3] [] M4 (kI fun v5 M5 => Tq 162 0 [vR 3 0, vI 1, vI v3, vI v5] [] M5 (kI fun v6 M6 => Tq 9 0 [vI 0, vI (w32 (w32 (v4 + v6) - (M6 4 0 10)))] [] M6 (kI fun v7 M7 => Q (.inl (some (vI v7))) M7)))))))) :=
  (show Bq 389 de_389 (List.drop 36 bk_389_1) [vR 9 0, vR 4 0, vI x2, vI x3, vR 7 x4, vI x5, vJ, vJ] [vI s0, vI s1, vR 9001 0, vI s3] M Q ↔ (((0 : Int) ≤ w32 (w32 (s1 * s0) + 3) ∧ w32 (w32 (s1 * s0) + 3) < 32) ∧ Bq 389 de_389 (List.drop 42 bk_389_1) [vR 9 0, vR 4 0, vI x2, vI x3, vR 7 x4, vI x5, vJ, vJ] [vI 2, vI (w32 (s3 + M 9001 0 (w32 (w32 (s1 * s0) + 3))))] M Q) from Iff.rfl).trans (by simp only [t389_1_c42])
theorem t389_1_c30 {x2 x3 x4 x5 s0 s1 : Int} {M : Mem} {Q : AR → Mem → Prop} : Bq 389 de_389 (List.drop 30 bk_389_1) [vR 9 0, vR 4 0, vI x2, vI x3, vR 7 x4, vI x5, vJ, vJ] [vI s0, vI s1, vR 9001 0] M Q ↔ (((0 : Int) ≤ w32 (s1 + s0) ∧ w32 (s1 + s0) < 32) ∧ ((0 : Int) ≤ w32 (w32 (4 * x2) + 3) ∧ w32 (w32 (4 * x2) + 3) < 32) ∧ (¬ (2 : Int) = 0) ∧ Tq 369 0 [vR 7 x4, vI 1] [] M (kI fun v1 M1 => Tq 369 0 [vR 7 x4, vI 2] [] M1 (kI fun v2 M2 => Tq 61 0 [vI v1, vI v2, vI x5, vI (div32 (w32 (M 9001 0 (w32 (s1 + s0)) + M 9001 0 (w32 (w32 (4 * x2) + 3)))) 2)] [] M2 (kI fun v3 M3 => Tq 369 0 [vR 7 x4, vI 4] [] M3 (kI fun v4 M4 => Tq 369 0 [vR 7 x4, vI 3] [] M4 (kI fun v5 M5 => Tq 162 0 [vR 3 0, vI 1, vI v3, vI v5] [] M5 (kI fun v6 M6 => Tq 9 0 [vI 0, vI (w32 (w32 (v4 + v6) - (M6 4 0 10)))] [] M6 (kI fun v7 M7 => Q (.inl (some (vI v7))) M7)))))))) :=
  (show Bq 389 de_389 (List.drop 30 bk_389_1) [vR 9 0, vR 4 0, vI x2, vI x3, vR 7 x4, vI x5, vJ, vJ] [vI s0, vI s1, vR 9001 0] M Q ↔ (((0 : Int) ≤ w32 (s1 + s0) ∧ w32 (s1 + s0) < 32) ∧ Bq 389 de_389 (List.drop 36 bk_389_1) [vR 9 0, vR 4 0, vI x2, vI x3, vR 7 x4, vI x5, vJ, vJ] [vI x2, vI 4, vR 9001 0, vI (M 9001 0 (w32 (s1 + s0)))] M Q) from Iff.rfl).trans (by simp only [t389_1_c36])
theorem t389_1_c24 {x2 x3 x4 x5 : Int} {M : Mem} {Q : AR → Mem → Prop} : Bq 389 de_389 (List.drop 24 bk_389_1) [vR 9 0, vR 4 0, vI x2, vI x3, vR 7 x4, vI x5, vJ, vJ] [] M Q ↔ (((0 : Int) ≤ w32 (w32 (4 * x2) + 1) ∧ w32 (w32 (4 * x2) + 1) < 32) ∧ ((0 : Int) ≤ w32 (w32 (4 * x2) + 3) ∧ w32 (w32 (4 * x2) + 3) < 32) ∧ (¬ (2 : Int) = 0) ∧ Tq 369 0 [vR 7 x4, vI 1] [] M (kI fun v1 M1 => Tq 369 0 [vR 7 x4, vI 2] [] M1 (kI fun v2 M2 => Tq 61 0 [vI v1, vI v2, vI x5, vI (div32 (w32 (M 9001 0 (w32 (w32 (4 * x2) + 1)) + M 9001 0 (w32 (w32 (4 * x2) + 3)))) 2)] [] M2 (kI fun v3 M3 => Tq 369 0 [vR 7 x4, vI 4] [] M3 (kI fun v4 M4 => Tq 369 0 [vR 7 x4, vI 3] [] M4 (kI fun v5 M5 => Tq 162 0 [vR 3 0, vI 1, vI v3, vI v5] [] M5 (kI fun v6 M6 => Tq 9 0 [vI 0, vI (w32 (w32 (v4 + v6) - (M6 4 0 10)))] [] M6 (kI fun v7 M7 => Q (.inl (some (vI v7))) M7)))))))) :=
  (show Bq 389 de_389 (List.drop 24 bk_389_1) [vR 9 0, vR 4 0, vI x2, vI x3, vR 7 x4, vI x5, vJ, vJ] [] M Q ↔ (Bq 389 de_389 (List.drop 30 bk_389_1) [vR 9 0, vR 4 0, vI x2, vI x3, vR 7 x4, vI x5, vJ, vJ] [vI 1, vI (w32 (4 * x2)), vR 9001 0] M Q) from Iff.rfl).trans (by simp only [t389_1_c30])
theorem t389_1_c18 {x2 x3 x4 s0 s1 s3 : Int} {M : Mem} {Q : AR → Mem → Prop} : Bq 389 de_389 (List.drop 18 bk_389_1) [vR 9 0, vR 4 0, vI x2, vI x3, vR 7 x4, vJ, vJ, vJ] [vI s0, vI s1, vR 9001 0, vI s3] M Q ↔ (((0 : Int) ≤ w32 (s1 + s0) ∧ w32 (s1 + s0) < 32) ∧ (¬ (2 : Int) = 0) ∧ ((0 : Int) ≤ w32 (w32 (4 * x2) + 1) ∧ w32 (w32 (4 * x2) + 1) < 32) ∧ ((0 : Int) ≤ w32 (w32 (4 * x2) + 3) ∧ w32 (w32 (4 * x2) + 3) < 32) ∧ (¬ (2 : Int) = 0) ∧ Tq 369 0 [vR 7 x4, vI 1] [] M (kI fun v1 M1 => Tq 369 0 [vR 7 x4, vI 2] [] M1 (kI fun v2 M2 => Tq 61 0 [vI v1, vI v2, vI (div32 (w32 (s3 + M 9001 0 (w32 (s1 + s0)))) 2), vI (div32 (w32 (M 9001 0 (w32 (w32 (4 * x2) + 1)) + M 9001 0 (w32 (w32 (4 * x2) + 3)))) 2)] [] M2 (kI fun v3 M3 => Tq 369 0 [vR 7 x4, vI 4] [] M3 (kI fun v4 M4 => Tq 369 0 [vR 7 x4, vI 3] [] M4 (kI fun v5 M5 => Tq 162 0 [vR 3 0, vI 1, vI v3, vI v5] [] M5 (kI fun v6 M6 => Tq 9 0 [vI 0, vI (w32 (w32 (v4 + v6) - (M6 4 0 10)))] [] M6 (kI fun v7 M7 => Q (.inl (some (vI v7))) M7)))))))) :=
  (show Bq 389 de_389 (List.drop 18 bk_389_1) [vR 9 0, vR 4 0, vI x2, vI x3, vR 7 x4, vJ, vJ, vJ] [vI s0, vI s1, vR 9001 0, vI s3] M Q ↔ (((0 : Int) ≤ w32 (s1 + s0) ∧ w32 (s1 + s0) < 32) ∧ (¬ (2 : Int) = 0) ∧ Bq 389 de_389 (List.drop 24 bk_389_1) [vR 9 0, vR 4 0, vI x2, vI x3, vR 7 x4, vI (div32 (w32 (s3 + M 9001 0 (w32 (s1 + s0)))) 2), vJ, vJ] [] M Q) from Iff.rfl).trans (by simp only [t389_1_c24])
theorem t389_1_c12 {x2 x3 x4 s0 : Int} {M : Mem} {Q : AR → Mem → Prop} : Bq 389 de_389 (List.drop 12 bk_389_1) [vR 9 0, vR 4 0, vI x2, vI x3, vR 7 x4, vJ, vJ, vJ] [vI s0] M Q ↔ (((0 : Int) ≤ w32 (w32 (4 * x2) + 2) ∧ w32 (w32 (4 * x2) + 2) < 32) ∧ (¬ (2 : Int) = 0) ∧ ((0 : Int) ≤ w32 (w32 (4 * x2) + 1) ∧ w32 (w32 (4 * x2) + 1) < 32) ∧ ((0 : Int) ≤ w32 (w32 (4 * x2) + 3) ∧ w32 (w32 (4 * x2) + 3) < 32) ∧ (¬ (2 : Int) = 0) ∧ Tq 369 0 [vR 7 x4, vI 1] [] M (kI fun v1 M1 => Tq 369 0 [vR 7 x4, vI 2] [] M1 (kI fun v2 M2 => Tq 61 0 [vI v1, vI v2, vI (div32 (w32 (s0 + M 9001 0 (w32 (w32 (4 * x2) + 2)))) 2), vI (div32 (w32 (M 9001 0 (w32 (w32 (4 * x2) + 1)) + M 9001 0 (w32 (w32 (4 * x2) + 3)))) 2)] [] M2 (kI fun v3 M3 => Tq 369 0 [vR 7 x4, vI 4] [] M3 (kI fun v4 M4 => Tq 369 0 [vR 7 x4, vI 3] [] M4 (kI fun v5 M5 => Tq 162 0 [vR 3 0, vI 1, vI v3, vI v5] [] M5 (kI fun v6 M6 => Tq 9 0 [vI 0, vI (w32 (w32 (v4 + v6) - (M6 4 0 10)))] [] M6 (kI fun v7 M7 => Q (.inl (some (vI v7))) M7)))))))) :=
  (show Bq 389 de_389 (List.drop 12 bk_389_1) [vR 9 0, vR 4 0, vI x2, vI x3, vR 7 x4, vJ, vJ, vJ] [vI s0] M Q ↔ (Bq 389 de_389 (List.drop 18 bk_389_1) [vR 9 0, vR 4 0, vI x2, vI x3, vR 7 x4, vJ, vJ, vJ] [vI 2, vI (w32 (4 * x2)), vR 9001 0, vI s0] M Q) from Iff.rfl).trans (by simp only [t389_1_c18])
theorem t389_1_c6 {x2 x3 x4 : Int} {M : Mem} {Q : AR → Mem → Prop} : Bq 389 de_389 (List.drop 6 bk_389_1) [vR 9 0, vR 4 0, vI x2, vI x3, vR 7 x4, vJ, vJ, vJ] [] M Q ↔ (((0 : Int) ≤ w32 (4 * x2) ∧ w32 (4 * x2) < 32) ∧ ((0 : Int) ≤ w32 (w32 (4 * x2) + 2) ∧ w32 (w32 (4 * x2) + 2) < 32) ∧ (¬ (2 : Int) = 0) ∧ ((0 : Int) ≤ w32 (w32 (4 * x2) + 1) ∧ w32 (w32 (4 * x2) + 1) < 32) ∧ ((0 : Int) ≤ w32 (w32 (4 * x2) + 3) ∧ w32 (w32 (4 * x2) + 3) < 32) ∧ (¬ (2 : Int) = 0) ∧ Tq 369 0 [vR 7 x4, vI 1] [] M (kI fun v1 M1 => Tq 369 0 [vR 7 x4, vI 2] [] M1 (kI fun v2 M2 => Tq 61 0 [vI v1, vI v2, vI (div32 (w32 (M 9001 0 (w32 (4 * x2)) + M 9001 0 (w32 (w32 (4 * x2) + 2)))) 2), vI (div32 (w32 (M 9001 0 (w32 (w32 (4 * x2) + 1)) + M 9001 0 (w32 (w32 (4 * x2) + 3)))) 2)] [] M2 (kI fun v3 M3 => Tq 369 0 [vR 7 x4, vI 4] [] M3 (kI fun v4 M4 => Tq 369 0 [vR 7 x4, vI 3] [] M4 (kI fun v5 M5 => Tq 162 0 [vR 3 0, vI 1, vI v3, vI v5] [] M5 (kI fun v6 M6 => Tq 9 0 [vI 0, vI (w32 (w32 (v4 + v6) - (M6 4 0 10)))] [] M6 (kI fun v7 M7 => Q (.inl (some (vI v7))) M7)))))))) :=
  (show Bq 389 de_389 (List.drop 6 bk_389_1) [vR 9 0, vR 4 0, vI x2, vI x3, vR 7 x4, vJ, vJ, vJ] [] M Q ↔ (((0 : Int) ≤ w32 (4 * x2) ∧ w32 (4 * x2) < 32) ∧ Bq 389 de_389 (List.drop 12 bk_389_1) [vR 9 0, vR 4 0, vI x2, vI x3, vR 7 x4, vJ, vJ, vJ] [vI (M 9001 0 (w32 (4 * x2)))] M Q) from Iff.rfl).trans (by simp only [t389_1_c12])
theorem t389_1 {x2 x3 : Int} {M : Mem} {Q : AR → Mem → Prop} : Tq 389 1 [vR 9 0, vR 4 0, vI x2, vI x3, vJ, vJ, vJ, vJ] [] M Q ↔ (((0 : Int) ≤ x3 ∧ x3 < 24) ∧ ((0 : Int) ≤ w32 (4 * x2) ∧ w32 (4 * x2) < 32) ∧ ((0 : Int) ≤ w32 (w32 (4 * x2) + 2) ∧ w32 (w32 (4 * x2) + 2) < 32) ∧ (¬ (2 : Int) = 0) ∧ ((0 : Int) ≤ w32 (w32 (4 * x2) + 1) ∧ w32 (w32 (4 * x2) + 1) < 32) ∧ ((0 : Int) ≤ w32 (w32 (4 * x2) + 3) ∧ w32 (w32 (4 * x2) + 3) < 32) ∧ (¬ (2 : Int) = 0) ∧ Tq 369 0 [vR 7 x3, vI 1] [] M (kI fun v1 M1 => Tq 369 0 [vR 7 x3, vI 2] [] M1 (kI fun v2 M2 => Tq 61 0 [vI v1, vI v2, vI (div32 (w32 (M 9001 0 (w32 (4 * x2)) + M 9001 0 (w32 (w32 (4 * x2) + 2)))) 2), vI (div32 (w32 (M 9001 0 (w32 (w32 (4 * x2) + 1)) + M 9001 0 (w32 (w32 (4 * x2) + 3)))) 2)] [] M2 (kI fun v3 M3 => Tq 369 0 [vR 7 x3, vI 4] [] M3 (kI fun v4 M4 => Tq 369 0 [vR 7 x3, vI 3] [] M4 (kI fun v5 M5 => Tq 162 0 [vR 3 0, vI 1, vI v3, vI v5] [] M5 (kI fun v6 M6 => Tq 9 0 [vI 0, vI (w32 (w32 (v4 + v6) - (M6 4 0 10)))] [] M6 (kI fun v7 M7 => Q (.inl (some (vI v7))) M7)))))))) :=
  (show Tq 389 1 [vR 9 0, vR 4 0, vI x2, vI x3, vJ, vJ, vJ, vJ] [] M Q ↔ (((0 : Int) ≤ x3 ∧ x3 < 24) ∧ Bq 389 de_389 (List.drop 6 bk_389_1) [vR 9 0, vR 4 0, vI x2, vI x3, vR 7 x3, vJ, vJ, vJ] [] M Q) from Tq_blk (is := bk_389_1) (dd := de_389) rfl rfl).trans (by simp only [t389_1_c6])
/-- EarthOffice$Alerts letter block at 0 -/
theorem t390_0 {x1 : Int} {M : Mem} {Q : AR → Mem → Prop} : Tq 390 0 [vR 9 0, vI x1] [] M Q ↔ (((0 : Int) ≤ M 9 0 6 ∧ M 9 0 6 < 200) ∧ ((0 : Int) ≤ w32 (w32 ((M 9 0 6) * 80) + M 9014 0 (M 9 0 6)) ∧ w32 (w32 ((M 9 0 6) * 80) + M 9014 0 (M 9 0 6)) < 16000) ∧ bd (mset M 9015 0 (w32 (w32 ((M 9 0 6) * 80) + M 9014 0 (M 9 0 6))) (w8 (w8 x1))) fun M1 => ((0 : Int) ≤ M1 9 0 6 ∧ M1 9 0 6 < 200) ∧ ((0 : Int) ≤ M1 9 0 6 ∧ M1 9 0 6 < 200) ∧ bd (mset M1 9014 0 (M1 9 0 6) (w32 (M1 9014 0 (M1 9 0 6) + 1))) fun M2 => Q (.inl none) M2) :=
  Tq_blk (is := bk_390_0) (dd := de_390) rfl rfl
/-- EarthOffice$Alerts pass block at 0 -/
theorem t391_0 {x1 : Int} {M : Mem} {Q : AR → Mem → Prop} : Tq 391 0 [vR 9 0, vI x1, vJ] [] M Q ↔ (Tq 391 1 [vR 9 0, vI x1, vI 0] [] M Q) :=
  Tq_blk (is := bk_391_0) (dd := de_391) rfl rfl
/-- EarthOffice$Alerts pass block at 2 -/
theorem t391_1 {x1 x2 : Int} {M : Mem} {Q : AR → Mem → Prop} : Tq 391 1 [vR 9 0, vI x1, vI x2] [] M Q ↔ (if M 9 0 6 ≤ x2 then Tq 391 7 [vJ, vJ, vJ] [] M Q else ((0 : Int) ≤ x2 ∧ x2 < 200) ∧ if ¬ M 9013 0 x2 = 0 then Tq 391 4 [vR 9 0, vI x1, vI x2] [] M Q else ((0 : Int) ≤ x2 ∧ x2 < 200) ∧ if (5 : Int) ≤ M 9011 0 x2 then Tq 391 4 [vR 9 0, vI x1, vI x2] [] M Q else ((0 : Int) ≤ x2 ∧ x2 < 200) ∧ ((0 : Int) ≤ x2 ∧ x2 < 200) ∧ ((0 : Int) ≤ M 9011 0 x2 ∧ M 9011 0 x2 < 5) ∧ if ¬ x1 = w32 (M 9010 0 x2 + stA 30002 (M 9011 0 x2)) then Tq 391 4 [vR 9 0, vI x1, vI x2] [] M Q else ((0 : Int) ≤ x2 ∧ x2 < 200) ∧ ((0 : Int) ≤ x2 ∧ x2 < 200) ∧ bd (mset M 9011 0 x2 (w32 (M 9011 0 x2 + 1))) fun M1 => ((0 : Int) ≤ x2 ∧ x2 < 200) ∧ ((0 : Int) ≤ M1 9008 0 x2 ∧ M1 9008 0 x2 < 8) ∧ if ¬ M1 9003 0 (M1 9008 0 x2) = 0 then Tq 391 4 [vR 9 0, vI x1, vI x2] [] M1 Q else ((0 : Int) ≤ x2 ∧ x2 < 200) ∧ ((0 : Int) ≤ M1 9008 0 x2 ∧ M1 9008 0 x2 < 8) ∧ ((0 : Int) ≤ x2 ∧ x2 < 200) ∧ if ¬ M1 9012 0 x2 = 0 then Tq 391 2 [vR 9 0, vI x1, vI x2] [vI (M1 9004 0 (M1 9008 0 x2)), vI (M1 9008 0 x2), vR 9004 0] M1 Q else Tq 391 3 [vR 9 0, vI x1, vI x2] [vI 1, vI (M1 9004 0 (M1 9008 0 x2)), vI (M1 9008 0 x2), vR 9004 0] M1 Q) :=
  Tq_blk (is := bk_391_1) (dd := de_391) rfl rfl
/-- EarthOffice$Alerts pass block at 99 -/
theorem t391_2 {x1 x2 s0 s1 : Int} {M : Mem} {Q : AR → Mem → Prop} : Tq 391 2 [vR 9 0, vI x1, vI x2] [vI s0, vI s1, vR 9004 0] M Q ↔ (Tq 391 3 [vR 9 0, vI x1, vI x2] [vI 0, vI s0, vI s1, vR 9004 0] M Q) :=
  Tq_blk (is := bk_391_2) (dd := de_391) rfl rfl
/-- EarthOffice$Alerts pass block at 100 -/
theorem t391_3 {x1 x2 s0 s1 s2 : Int} {M : Mem} {Q : AR → Mem → Prop} : Tq 391 3 [vR 9 0, vI x1, vI x2] [vI s0, vI s1, vI s2, vR 9004 0] M Q ↔ (((0 : Int) ≤ s2 ∧ s2 < 8) ∧ bd (mset M 9004 0 s2 (w32 (s1 + s0))) fun M1 => ((0 : Int) ≤ x2 ∧ x2 < 200) ∧ ((0 : Int) ≤ x2 ∧ x2 < 200) ∧ bd (mset M1 9012 0 x2 (w32 (M1 9012 0 x2 + 1))) fun M2 => Tq 391 4 [vR 9 0, vI x1, vI x2] [] M2 Q) :=
  Tq_blk (is := bk_391_3) (dd := de_391) rfl rfl
/-- EarthOffice$Alerts pass block at 112 -/
theorem t391_4 {x1 x2 : Int} {M : Mem} {Q : AR → Mem → Prop} : Tq 391 4 [vR 9 0, vI x1, vI x2] [] M Q ↔ (((0 : Int) ≤ x2 ∧ x2 < 200) ∧ if ¬ M 9013 0 x2 = 0 then Tq 391 5 [vR 9 0, vI x1, vI x2] [vI x2, vR 9013 0] M Q else ((0 : Int) ≤ x2 ∧ x2 < 200) ∧ if ¬ x1 = w32 (M 9010 0 x2 + 62) then Tq 391 5 [vR 9 0, vI x1, vI x2] [vI x2, vR 9013 0] M Q else Tq 391 6 [vR 9 0, vI x1, vI x2] [vI 2, vI x2, vR 9013 0] M Q) :=
  Tq_blk (is := bk_391_4) (dd := de_391) rfl rfl
/-- EarthOffice$Alerts pass block at 143 -/
theorem t391_5 {x1 x2 s0 : Int} {M : Mem} {Q : AR → Mem → Prop} : Tq 391 5 [vR 9 0, vI x1, vI x2] [vI s0, vR 9013 0] M Q ↔ (((0 : Int) ≤ x2 ∧ x2 < 200) ∧ Tq 391 6 [vR 9 0, vI x1, vI x2] [vI (M 9013 0 x2), vI s0, vR 9013 0] M Q) :=
  Tq_blk (is := bk_391_5) (dd := de_391) rfl rfl
/-- EarthOffice$Alerts pass block at 149 -/
theorem t391_6 {x1 x2 s0 s1 : Int} {M : Mem} {Q : AR → Mem → Prop} : Tq 391 6 [vR 9 0, vI x1, vI x2] [vI s0, vI s1, vR 9013 0] M Q ↔ (((0 : Int) ≤ s1 ∧ s1 < 200) ∧ bd (mset M 9013 0 s1 s0) fun M1 => Tq 391 1 [vR 9 0, vI x1, vI (w32 (x2 + 1))] [] M1 Q) :=
  Tq_blk (is := bk_391_6) (dd := de_391) rfl rfl
/-- EarthOffice$Alerts pass block at 156 -/
theorem t391_7 {M : Mem} {Q : AR → Mem → Prop} : Tq 391 7 [vJ, vJ, vJ] [] M Q ↔ (Q (.inl none) M) :=
  Tq_blk (is := bk_391_7) (dd := de_391) rfl rfl
/-- EarthOffice$Alerts of block at 0 -/
theorem t392_0 {x1 x2 : Int} {M : Mem} {Q : AR → Mem → Prop} : Tq 392 0 [vR 9 0, vI x1, vI x2] [] M Q ↔ (if x2 = 0 then Tq 392 1 [vR 9 0, vI x1, vJ] [] M Q else if x2 = 1 then Tq 392 2 [vR 9 0, vI x1, vJ] [] M Q else if x2 = 2 then Tq 392 3 [vR 9 0, vI x1, vJ] [] M Q else if x2 = 3 then Tq 392 4 [vR 9 0, vI x1, vJ] [] M Q else if x2 = 4 then Tq 392 5 [vR 9 0, vI x1, vJ] [] M Q else if x2 = 5 then Tq 392 8 [vR 9 0, vI x1, vJ] [] M Q else if x2 = 6 then Tq 392 9 [vR 9 0, vI x1, vJ] [] M Q else Tq 392 10 [vR 9 0, vI x1, vJ] [] M Q) :=
  Tq_blk (is := bk_392_0) (dd := de_392) rfl rfl
/-- EarthOffice$Alerts of block at 44 -/
theorem t392_1 {x1 : Int} {M : Mem} {Q : AR → Mem → Prop} : Tq 392 1 [vR 9 0, vI x1, vJ] [] M Q ↔ (((0 : Int) ≤ x1 ∧ x1 < 200) ∧ Q (.inl (some (vI (M 9008 0 x1)))) M) :=
  Tq_blk (is := bk_392_1) (dd := de_392) rfl rfl
/-- EarthOffice$Alerts of block at 51 -/
theorem t392_2 {x1 : Int} {M : Mem} {Q : AR → Mem → Prop} : Tq 392 2 [vR 9 0, vI x1, vJ] [] M Q ↔ (((0 : Int) ≤ x1 ∧ x1 < 200) ∧ Q (.inl (some (vI (M 9009 0 x1)))) M) :=
  Tq_blk (is := bk_392_2) (dd := de_392) rfl rfl
/-- EarthOffice$Alerts of block at 58 -/
theorem t392_3 {x1 : Int} {M : Mem} {Q : AR → Mem → Prop} : Tq 392 3 [vR 9 0, vI x1, vJ] [] M Q ↔ (((0 : Int) ≤ x1 ∧ x1 < 200) ∧ Q (.inl (some (vI (M 9010 0 x1)))) M) :=
  Tq_blk (is := bk_392_3) (dd := de_392) rfl rfl
/-- EarthOffice$Alerts of block at 65 -/
theorem t392_4 {x1 : Int} {M : Mem} {Q : AR → Mem → Prop} : Tq 392 4 [vR 9 0, vI x1, vJ] [] M Q ↔ (((0 : Int) ≤ x1 ∧ x1 < 200) ∧ Q (.inl (some (vI (M 9011 0 x1)))) M) :=
  Tq_blk (is := bk_392_4) (dd := de_392) rfl rfl
/-- EarthOffice$Alerts of block at 72 -/
theorem t392_5 {x1 : Int} {M : Mem} {Q : AR → Mem → Prop} : Tq 392 5 [vR 9 0, vI x1, vJ] [] M Q ↔ (((0 : Int) ≤ x1 ∧ x1 < 200) ∧ if M 9012 0 x1 ≤ 0 then Tq 392 6 [vJ, vJ, vJ] [] M Q else Tq 392 7 [vJ, vJ, vJ] [vI 1] M Q) :=
  Tq_blk (is := bk_392_5) (dd := de_392) rfl rfl
/-- EarthOffice$Alerts of block at 85 -/
theorem t392_6 {M : Mem} {Q : AR → Mem → Prop} : Tq 392 6 [vJ, vJ, vJ] [] M Q ↔ (Tq 392 7 [vJ, vJ, vJ] [vI 0] M Q) :=
  Tq_blk (is := bk_392_6) (dd := de_392) rfl rfl
/-- EarthOffice$Alerts of block at 86 -/
theorem t392_7 {s0 : Int} {M : Mem} {Q : AR → Mem → Prop} : Tq 392 7 [vJ, vJ, vJ] [vI s0] M Q ↔ (Q (.inl (some (vI s0))) M) :=
  Tq_blk (is := bk_392_7) (dd := de_392) rfl rfl
/-- EarthOffice$Alerts of block at 87 -/
theorem t392_8 {x1 : Int} {M : Mem} {Q : AR → Mem → Prop} : Tq 392 8 [vR 9 0, vI x1, vJ] [] M Q ↔ (((0 : Int) ≤ x1 ∧ x1 < 200) ∧ Tq 9 0 [vI 0, vI (w32 (M 9012 0 x1 - 1))] [] M (kI fun v1 M1 => Q (.inl (some (vI v1))) M1)) :=
  Tq_blk (is := bk_392_8) (dd := de_392) rfl rfl
/-- EarthOffice$Alerts of block at 100 -/
theorem t392_9 {x1 : Int} {M : Mem} {Q : AR → Mem → Prop} : Tq 392 9 [vR 9 0, vI x1, vJ] [] M Q ↔ (((0 : Int) ≤ x1 ∧ x1 < 200) ∧ Q (.inl (some (vI (M 9013 0 x1)))) M) :=
  Tq_blk (is := bk_392_9) (dd := de_392) rfl rfl
/-- EarthOffice$Alerts of block at 107 -/
theorem t392_10 {x1 : Int} {M : Mem} {Q : AR → Mem → Prop} : Tq 392 10 [vR 9 0, vI x1, vJ] [] M Q ↔ (((0 : Int) ≤ x1 ∧ x1 < 200) ∧ Q (.inl (some (vI (M 9014 0 x1)))) M) :=
  Tq_blk (is := bk_392_10) (dd := de_392) rfl rfl
/-- EarthOffice$Alerts clear block at 0 -/
theorem t393_0 {M : Mem} {Q : AR → Mem → Prop} : Tq 393 0 [vR 9 0] [] M Q ↔ (bd (mset M 9 0 0 0) fun M1 => ((0 : Int) = 0 ∨ (0 : Int) = 1) ∧ bd (mset M1 9 0 5 0) fun M2 => bd (mset M2 9 0 6 0) fun M3 => bd (mset M3 9 0 7 0) fun M4 => Q (.inl none) M4) :=
  Tq_blk (is := bk_393_0) (dd := de_393) rfl rfl
/-- EarthOffice$Reader fault block at 0 -/
theorem t394_0 {x1 : Int} {M : Mem} {Q : AR → Mem → Prop} : Tq 394 0 [vR 10 0, vR 13 x1, vJ] [] M Q ↔ (bd (mset M 10 0 2 x1) fun M1 => Tq 395 0 [vR 10 0] [] M1 (kX (fun e9 M9 => Tq 394 1 [vJ, vJ, vJ] [vR 11 e9] M9 Q) (kV fun M2 => Tq 394 2 [vJ, vJ, vJ] [] M2 Q))) :=
  Tq_blk (is := bk_394_0) (dd := de_394) rfl rfl
/-- EarthOffice$Reader fault block at 12 -/
theorem t394_1 {M : Mem} {Q : AR → Mem → Prop} : Tq 394 1 [vJ, vJ, vJ] [vR 11 0] M Q ↔ (Q (.inl (some (vI (M 11 0 6)))) M) :=
  Tq_blk (is := bk_394_1) (dd := de_394) rfl rfl
/-- EarthOffice$Reader fault block at 18 -/
theorem t394_2 {M : Mem} {Q : AR → Mem → Prop} : Tq 394 2 [vJ, vJ, vJ] [] M Q ↔ (Q (.inl (some (vI (-99999999)))) M) :=
  Tq_blk (is := bk_394_2) (dd := de_394) rfl rfl
/-- EarthOffice$Reader read block at 0 -/
theorem t395_0 {M : Mem} {Q : AR → Mem → Prop} : Tq 395 0 [vR 10 0] [] M Q ↔ (Tq 108 0 [vR 12 8] [] M (kV fun M1 => bd (mset M1 10 0 6 0) fun M2 => bd (mset M2 10 0 4 0) fun M3 => Tq 396 0 [vR 10 0, vJ, vJ] [] M3 (kV fun M4 => Tq 399 0 [vR 10 0, vR 31 25] [] M4 (kX (fun e9 M9 => Q (.inr e9) M9) (kV fun M5 => ((0 : Int) ≤ (if 1 ≤ 14 then 11 + 10 * (14 - 1) else -1) ∧ (if 1 ≤ 14 then 11 + 10 * (14 - 1) else -1) < 152) ∧ Tq 402 0 [vR 10 0, vI 1] [] M5 (kX (fun e9 M9 => Q (.inr e9) M9) (kV fun M6 => Tq 400 0 [vR 10 0, vR 31 26, vJ, vJ] [] M6 (kI fun v1 M7 => Tq 401 0 [vR 10 0, vI v1] [] M7 (kX (fun e9 M9 => Q (.inr e9) M9) (kV fun M8 => Tq 411 0 [vR 10 0, vI (M8 10 0 4), vJ, vJ] [] M8 (kX (fun e9 M9 => Q (.inr e9) M9) (kV fun M9 => Q (.inl none) M9)))))))))))) :=
  Tq_blk (is := bk_395_0) (dd := de_395) rfl rfl
/-- EarthOffice$Reader next block at 0 -/
theorem t396_0 {M : Mem} {Q : AR → Mem → Prop} : Tq 396 0 [vR 10 0, vJ, vJ] [] M Q ↔ (bd (mset M 10 0 3 (M 10 0 4)) fun M1 => Tq 396 1 [vR 10 0, vJ, vJ] [] M1 Q) :=
  Tq_blk (is := bk_396_0) (dd := de_396) rfl rfl
/-- EarthOffice$Reader next block at 8 -/
theorem t396_1 {M : Mem} {Q : AR → Mem → Prop} : Tq 396 1 [vR 10 0, vJ, vJ] [] M Q ↔ ((0 ≤ M 10 0 2) ∧ Tq 114 0 [vR 13 (M 10 0 2), vI (M 10 0 3)] [] M (kI fun v1 M1 => if ¬ v1 = (32 : Int) then Tq 396 2 [vR 10 0, vJ, vJ] [] M1 Q else bd (mset M1 10 0 3 (w32 (M1 10 0 3 + 1))) fun M2 => Tq 396 1 [vR 10 0, vJ, vJ] [] M2 Q)) :=
  Tq_blk (is := bk_396_1) (dd := de_396) rfl rfl
/-- EarthOffice$Reader next block at 37 -/
theorem t396_2 {M : Mem} {Q : AR → Mem → Prop} : Tq 396 2 [vR 10 0, vJ, vJ] [] M Q ↔ ((0 ≤ M 10 0 2) ∧ Tq 114 0 [vR 13 (M 10 0 2), vI (M 10 0 3)] [] M (kI fun v1 M1 => if 0 ≤ v1 then Tq 396 3 [vR 10 0, vI v1, vJ] [vR 10 0] M1 Q else Tq 396 6 [vR 10 0, vI v1, vJ] [vI 3, vR 10 0] M1 Q)) :=
  Tq_blk (is := bk_396_2) (dd := de_396) rfl rfl
/-- EarthOffice$Reader next block at 58 -/
theorem t396_3 {x1 : Int} {M : Mem} {Q : AR → Mem → Prop} : Tq 396 3 [vR 10 0, vI x1, vJ] [vR 10 0] M Q ↔ (Tq 397 0 [vI x1] [] M (kI fun v1 M1 => if v1 = 0 then Tq 396 4 [vR 10 0, vI x1, vJ] [vR 10 0] M1 Q else Tq 396 6 [vR 10 0, vI x1, vJ] [vI 0, vR 10 0] M1 Q)) :=
  Tq_blk (is := bk_396_3) (dd := de_396) rfl rfl
/-- EarthOffice$Reader next block at 69 -/
theorem t396_4 {x1 : Int} {M : Mem} {Q : AR → Mem → Prop} : Tq 396 4 [vR 10 0, vI x1, vJ] [vR 10 0] M Q ↔ (Tq 398 0 [vI x1] [] M (kI fun v1 M1 => if v1 = 0 then Tq 396 5 [vR 10 0, vI x1, vJ] [vR 10 0] M1 Q else Tq 396 6 [vR 10 0, vI x1, vJ] [vI 1, vR 10 0] M1 Q)) :=
  Tq_blk (is := bk_396_4) (dd := de_396) rfl rfl
/-- EarthOffice$Reader next block at 80 -/
theorem t396_5 {x1 : Int} {M : Mem} {Q : AR → Mem → Prop} : Tq 396 5 [vR 10 0, vI x1, vJ] [vR 10 0] M Q ↔ (Tq 396 6 [vR 10 0, vI x1, vJ] [vI 2, vR 10 0] M Q) :=
  Tq_blk (is := bk_396_5) (dd := de_396) rfl rfl
/-- EarthOffice$Reader next block at 81 -/
theorem t396_6 {x1 s0 : Int} {M : Mem} {Q : AR → Mem → Prop} : Tq 396 6 [vR 10 0, vI x1, vJ] [vI s0, vR 10 0] M Q ↔ (bd (mset M 10 0 5 s0) fun M1 => if ¬ M1 10 0 5 = (3 : Int) then Tq 396 7 [vR 10 0, vI x1, vJ] [vR 10 0] M1 Q else Tq 396 8 [vR 10 0, vI x1, vJ] [vI (M1 10 0 3), vR 10 0] M1 Q) :=
  Tq_blk (is := bk_396_6) (dd := de_396) rfl rfl
/-- EarthOffice$Reader next block at 100 -/
theorem t396_7 {x1 : Int} {M : Mem} {Q : AR → Mem → Prop} : Tq 396 7 [vR 10 0, vI x1, vJ] [vR 10 0] M Q ↔ (Tq 396 8 [vR 10 0, vI x1, vJ] [vI (w32 (M 10 0 3 + 1)), vR 10 0] M Q) :=
  Tq_blk (is := bk_396_7) (dd := de_396) rfl rfl
/-- EarthOffice$Reader next block at 106 -/
theorem t396_8 {x1 s0 : Int} {M : Mem} {Q : AR → Mem → Prop} : Tq 396 8 [vR 10 0, vI x1, vJ] [vI s0, vR 10 0] M Q ↔ (bd (mset M 10 0 4 s0) fun M1 => if ¬ M1 10 0 5 = (2 : Int) then Tq 396 13 [vR 10 0, vJ, vJ] [] M1 Q else (0 ≤ M1 10 0 2) ∧ Tq 114 0 [vR 13 (M1 10 0 2), vI (M1 10 0 4)] [] M1 (kI fun v1 M2 => if ¬ x1 = (60 : Int) then Tq 396 9 [vJ, vI x1, vI v1] [vI (M2 10 0 4), vR 10 0] M2 Q else if v1 = (61 : Int) then Tq 396 10 [vJ, vJ, vJ] [vI (M2 10 0 4), vR 10 0] M2 Q else if v1 = (62 : Int) then Tq 396 10 [vJ, vJ, vJ] [vI (M2 10 0 4), vR 10 0] M2 Q else Tq 396 9 [vJ, vI x1, vI v1] [vI (M2 10 0 4), vR 10 0] M2 Q)) :=
  Tq_blk (is := bk_396_8) (dd := de_396) rfl rfl
/-- EarthOffice$Reader next block at 152 -/
theorem t396_9 {x1 x2 s0 : Int} {M : Mem} {Q : AR → Mem → Prop} : Tq 396 9 [vJ, vI x1, vI x2] [vI s0, vR 10 0] M Q ↔ (if ¬ x1 = (62 : Int) then Tq 396 11 [vJ, vJ, vJ] [vI s0, vR 10 0] M Q else if ¬ x2 = (61 : Int) then Tq 396 11 [vJ, vJ, vJ] [vI s0, vR 10 0] M Q else Tq 396 10 [vJ, vJ, vJ] [vI s0, vR 10 0] M Q) :=
  Tq_blk (is := bk_396_9) (dd := de_396) rfl rfl
/-- EarthOffice$Reader next block at 164 -/
theorem t396_10 {s0 : Int} {M : Mem} {Q : AR → Mem → Prop} : Tq 396 10 [vJ, vJ, vJ] [vI s0, vR 10 0] M Q ↔ (Tq 396 12 [vJ, vJ, vJ] [vI 1, vI s0, vR 10 0] M Q) :=
  Tq_blk (is := bk_396_10) (dd := de_396) rfl rfl
/-- EarthOffice$Reader next block at 168 -/
theorem t396_11 {s0 : Int} {M : Mem} {Q : AR → Mem → Prop} : Tq 396 11 [vJ, vJ, vJ] [vI s0, vR 10 0] M Q ↔ (Tq 396 12 [vJ, vJ, vJ] [vI 0, vI s0, vR 10 0] M Q) :=
  Tq_blk (is := bk_396_11) (dd := de_396) rfl rfl
/-- EarthOffice$Reader next block at 169 -/
theorem t396_12 {s0 s1 : Int} {M : Mem} {Q : AR → Mem → Prop} : Tq 396 12 [vJ, vJ, vJ] [vI s0, vI s1, vR 10 0] M Q ↔ (bd (mset M 10 0 4 (w32 (s1 + s0))) fun M1 => Q (.inl none) M1) :=
  Tq_blk (is := bk_396_12) (dd := de_396) rfl rfl
/-- EarthOffice$Reader next block at 174 -/
theorem t396_13 {M : Mem} {Q : AR → Mem → Prop} : Tq 396 13 [vR 10 0, vJ, vJ] [] M Q ↔ (if ¬ M 10 0 5 = 0 then Tq 396 14 [vR 10 0, vJ, vJ] [] M Q else (0 ≤ M 10 0 2) ∧ Tq 114 0 [vR 13 (M 10 0 2), vI (M 10 0 4)] [] M (kI fun v1 M1 => Tq 397 0 [vI v1] [] M1 (kI fun v2 M2 => if ¬ v2 = 0 then Tq 396 15 [vR 10 0, vJ, vJ] [] M2 Q else Tq 396 14 [vR 10 0, vJ, vJ] [] M2 Q))) :=
  Tq_blk (is := bk_396_13) (dd := de_396) rfl rfl
/-- EarthOffice$Reader next block at 198 -/
theorem t396_14 {M : Mem} {Q : AR → Mem → Prop} : Tq 396 14 [vR 10 0, vJ, vJ] [] M Q ↔ (if ¬ M 10 0 5 = (1 : Int) then Tq 396 16 [vJ, vJ, vJ] [] M Q else (0 ≤ M 10 0 2) ∧ Tq 114 0 [vR 13 (M 10 0 2), vI (M 10 0 4)] [] M (kI fun v1 M1 => Tq 398 0 [vI v1] [] M1 (kI fun v2 M2 => if v2 = 0 then Tq 396 16 [vJ, vJ, vJ] [] M2 Q else Tq 396 15 [vR 10 0, vJ, vJ] [] M2 Q))) :=
  Tq_blk (is := bk_396_14) (dd := de_396) rfl rfl
/-- EarthOffice$Reader next block at 223 -/
theorem t396_15 {M : Mem} {Q : AR → Mem → Prop} : Tq 396 15 [vR 10 0, vJ, vJ] [] M Q ↔ (bd (mset M 10 0 4 (w32 (M 10 0 4 + 1))) fun M1 => Tq 396 13 [vR 10 0, vJ, vJ] [] M1 Q) :=
  Tq_blk (is := bk_396_15) (dd := de_396) rfl rfl
/-- EarthOffice$Reader next block at 236 -/
theorem t396_16 {M : Mem} {Q : AR → Mem → Prop} : Tq 396 16 [vJ, vJ, vJ] [] M Q ↔ (Q (.inl none) M) :=
  Tq_blk (is := bk_396_16) (dd := de_396) rfl rfl
/-- EarthOffice$Reader isLetter block at 0 -/
theorem t397_0 {x0 : Int} {M : Mem} {Q : AR → Mem → Prop} : Tq 397 0 [vI x0] [] M Q ↔ (if x0 < (97 : Int) then Tq 397 1 [vJ] [] M Q else if (122 : Int) < x0 then Tq 397 1 [vJ] [] M Q else Tq 397 2 [vJ] [vI 1] M Q) :=
  Tq_blk (is := bk_397_0) (dd := de_397) rfl rfl
/-- EarthOffice$Reader isLetter block at 16 -/
theorem t397_1 {M : Mem} {Q : AR → Mem → Prop} : Tq 397 1 [vJ] [] M Q ↔ (Tq 397 2 [vJ] [vI 0] M Q) :=
  Tq_blk (is := bk_397_1) (dd := de_397) rfl rfl
/-- EarthOffice$Reader isLetter block at 17 -/
theorem t397_2 {s0 : Int} {M : Mem} {Q : AR → Mem → Prop} : Tq 397 2 [vJ] [vI s0] M Q ↔ (Q (.inl (some (vI (nb s0)))) M) :=
  Tq_blk (is := bk_397_2) (dd := de_397) rfl rfl
/-- EarthOffice$Reader isFigure block at 0 -/
theorem t398_0 {x0 : Int} {M : Mem} {Q : AR → Mem → Prop} : Tq 398 0 [vI x0] [] M Q ↔ (if x0 < (48 : Int) then Tq 398 1 [vJ] [] M Q else if (57 : Int) < x0 then Tq 398 1 [vJ] [] M Q else Tq 398 2 [vJ] [vI 1] M Q) :=
  Tq_blk (is := bk_398_0) (dd := de_398) rfl rfl
/-- EarthOffice$Reader isFigure block at 16 -/
theorem t398_1 {M : Mem} {Q : AR → Mem → Prop} : Tq 398 1 [vJ] [] M Q ↔ (Tq 398 2 [vJ] [vI 0] M Q) :=
  Tq_blk (is := bk_398_1) (dd := de_398) rfl rfl
/-- EarthOffice$Reader isFigure block at 17 -/
theorem t398_2 {s0 : Int} {M : Mem} {Q : AR → Mem → Prop} : Tq 398 2 [vJ] [vI s0] M Q ↔ (Q (.inl (some (vI (nb s0)))) M) :=
  Tq_blk (is := bk_398_2) (dd := de_398) rfl rfl
/-- EarthOffice$Reader take block at 0 -/
theorem t399_0 {x1 : Int} {M : Mem} {Q : AR → Mem → Prop} : Tq 399 0 [vR 10 0, vR 31 x1] [] M Q ↔ (Tq 400 0 [vR 10 0, vR 31 x1, vJ, vJ] [] M (kI fun v1 M1 => Tq 401 0 [vR 10 0, vI v1] [] M1 (kX (fun e9 M9 => Q (.inr e9) M9) (kV fun M2 => Tq 396 0 [vR 10 0, vJ, vJ] [] M2 (kV fun M3 => Q (.inl none) M3))))) :=
  Tq_blk (is := bk_399_0) (dd := de_399) rfl rfl
/-- EarthOffice$Reader is block at 0 -/
theorem t400_0 {x1 : Int} {M : Mem} {Q : AR → Mem → Prop} : Tq 400 0 [vR 10 0, vR 31 x1, vJ, vJ] [] M Q ↔ (Tq 16 0 [vR 31 x1] [] M (kI fun v1 M1 => if ¬ w32 (M 10 0 4 - (M 10 0 3)) = v1 then Tq 400 1 [vR 10 0, vR 31 x1, vJ, vJ] [] M1 Q else Tq 400 2 [vR 10 0, vR 31 x1, vJ, vJ] [vI 1] M1 Q)) :=
  Tq_blk (is := bk_400_0) (dd := de_400) rfl rfl
/-- EarthOffice$Reader is block at 20 -/
theorem t400_1 {x1 : Int} {M : Mem} {Q : AR → Mem → Prop} : Tq 400 1 [vR 10 0, vR 31 x1, vJ, vJ] [] M Q ↔ (Tq 400 2 [vR 10 0, vR 31 x1, vJ, vJ] [vI 0] M Q) :=
  Tq_blk (is := bk_400_1) (dd := de_400) rfl rfl
/-- EarthOffice$Reader is block at 21 -/
theorem t400_2 {x1 s0 : Int} {M : Mem} {Q : AR → Mem → Prop} : Tq 400 2 [vR 10 0, vR 31 x1, vJ, vJ] [vI s0] M Q ↔ (Tq 400 3 [vR 10 0, vR 31 x1, vI s0, vI 0] [] M Q) :=
  Tq_blk (is := bk_400_2) (dd := de_400) rfl rfl
/-- EarthOffice$Reader is block at 24 -/
theorem t400_3 {x1 x2 x3 : Int} {M : Mem} {Q : AR → Mem → Prop} : Tq 400 3 [vR 10 0, vR 31 x1, vI x2, vI x3] [] M Q ↔ (if x2 = 0 then Tq 400 6 [vJ, vJ, vI x2, vJ] [] M Q else Tq 16 0 [vR 31 x1] [] M (kI fun v1 M1 => if v1 ≤ x3 then Tq 400 6 [vJ, vJ, vI x2, vJ] [] M1 Q else (0 ≤ M1 10 0 2) ∧ Tq 114 0 [vR 13 (M1 10 0 2), vI (w32 (M1 10 0 3 + x3))] [] M1 (kI fun v2 M2 => Tq 18 0 [vR 31 x1, vI x3] [] M2 (kI fun v3 M3 => if ¬ v2 = v3 then Tq 400 4 [vR 10 0, vR 31 x1, vJ, vI x3] [] M3 Q else Tq 400 5 [vR 10 0, vR 31 x1, vJ, vI x3] [vI 1] M3 Q)))) :=
  Tq_blk (is := bk_400_3) (dd := de_400) rfl rfl
/-- EarthOffice$Reader is block at 61 -/
theorem t400_4 {x1 x3 : Int} {M : Mem} {Q : AR → Mem → Prop} : Tq 400 4 [vR 10 0, vR 31 x1, vJ, vI x3] [] M Q ↔ (Tq 400 5 [vR 10 0, vR 31 x1, vJ, vI x3] [vI 0] M Q) :=
  Tq_blk (is := bk_400_4) (dd := de_400) rfl rfl
/-- EarthOffice$Reader is block at 62 -/
theorem t400_5 {x1 x3 s0 : Int} {M : Mem} {Q : AR → Mem → Prop} : Tq 400 5 [vR 10 0, vR 31 x1, vJ, vI x3] [vI s0] M Q ↔ (Tq 400 3 [vR 10 0, vR 31 x1, vI s0, vI (w32 (x3 + 1))] [] M Q) :=
  Tq_blk (is := bk_400_5) (dd := de_400) rfl rfl
/-- EarthOffice$Reader is block at 69 -/
theorem t400_6 {x2 : Int} {M : Mem} {Q : AR → Mem → Prop} : Tq 400 6 [vJ, vJ, vI x2, vJ] [] M Q ↔ (Q (.inl (some (vI (nb x2)))) M) :=
  Tq_blk (is := bk_400_6) (dd := de_400) rfl rfl
/-- EarthOffice$Reader want block at 0 -/
theorem t401_0 {x1 : Int} {M : Mem} {Q : AR → Mem → Prop} : Tq 401 0 [vR 10 0, vI x1] [] M Q ↔ (if ¬ x1 = 0 then Tq 401 1 [vJ, vJ] [] M Q else Tq 107 0 [vR 11 0, vI (M 10 0 3)] [] M (kR 11 fun v1 M1 => Q (.inr v1) M1)) :=
  Tq_blk (is := bk_401_0) (dd := de_401) rfl rfl
/-- EarthOffice$Reader want block at 16 -/
theorem t401_1 {M : Mem} {Q : AR → Mem → Prop} : Tq 401 1 [vJ, vJ] [] M Q ↔ (Q (.inl none) M) :=
  Tq_blk (is := bk_401_1) (dd := de_401) rfl rfl
/-- EarthOffice$Reader cond block at 0 -/
theorem t402_0 {x1 : Int} {M : Mem} {Q : AR → Mem → Prop} : Tq 402 0 [vR 10 0, vI x1] [] M Q ↔ (if (12 : Int) < x1 then Tq 402 1 [vR 10 0, vI x1] [vR 10 0] M Q else Tq 402 2 [vR 10 0, vI x1] [vI 1, vR 10 0] M Q) :=
  Tq_blk (is := bk_402_0) (dd := de_402) rfl rfl
/-- EarthOffice$Reader cond block at 11 -/
theorem t402_1 {x1 : Int} {M : Mem} {Q : AR → Mem → Prop} : Tq 402 1 [vR 10 0, vI x1] [vR 10 0] M Q ↔ (Tq 402 2 [vR 10 0, vI x1] [vI 0, vR 10 0] M Q) :=
  Tq_blk (is := bk_402_1) (dd := de_402) rfl rfl
/-- EarthOffice$Reader cond block at 12 -/
theorem t402_2 {x1 s0 : Int} {M : Mem} {Q : AR → Mem → Prop} : Tq 402 2 [vR 10 0, vI x1] [vI s0, vR 10 0] M Q ↔ (Tq 401 0 [vR 10 0, vI s0] [] M (kX (fun e9 M9 => Q (.inr e9) M9) (kV fun M1 => ((0 : Int) ≤ (if x1 ≤ 14 then 10 + 10 * (14 - x1) else -1) ∧ (if x1 ≤ 14 then 10 + 10 * (14 - x1) else -1) < (if x1 ≤ 14 then 11 + 10 * (14 - x1) else -1)) ∧ Tq 403 0 [vR 10 0, vI x1] [] M1 (kX (fun e9 M9 => Q (.inr e9) M9) (kV fun M2 => Tq 402 3 [vR 10 0, vI x1] [] M2 Q))))) :=
  Tq_blk (is := bk_402_2) (dd := de_402) rfl rfl
/-- EarthOffice$Reader cond block at 20 -/
theorem t402_3 {x1 : Int} {M : Mem} {Q : AR → Mem → Prop} : Tq 402 3 [vR 10 0, vI x1] [] M Q ↔ (Tq 400 0 [vR 10 0, vR 31 27, vJ, vJ] [] M (kI fun v1 M1 => if v1 = 0 then Tq 402 4 [vJ, vJ] [] M1 Q else Tq 405 0 [vR 10 0] [] M1 (kX (fun e9 M9 => Q (.inr e9) M9) (kV fun M2 => Tq 396 0 [vR 10 0, vJ, vJ] [] M2 (kV fun M3 => ((0 : Int) ≤ (if x1 ≤ 14 then 10 + 10 * (14 - x1) else -1) ∧ (if x1 ≤ 14 then 10 + 10 * (14 - x1) else -1) < (if x1 ≤ 14 then 11 + 10 * (14 - x1) else -1)) ∧ Tq 403 0 [vR 10 0, vI x1] [] M3 (kX (fun e9 M9 => Q (.inr e9) M9) (kV fun M4 => Tq 109 0 [vR 12 8, vI 31, vI 0, vI 0] [] M4 (kV fun M5 => Tq 402 3 [vR 10 0, vI x1] [] M5 Q)))))))) :=
  Tq_blk (is := bk_402_3) (dd := de_402) rfl rfl
/-- EarthOffice$Reader cond block at 56 -/
theorem t402_4 {M : Mem} {Q : AR → Mem → Prop} : Tq 402 4 [vJ, vJ] [] M Q ↔ (Q (.inl none) M) :=
  Tq_blk (is := bk_402_4) (dd := de_402) rfl rfl
/-- EarthOffice$Reader all block at 0 -/
theorem t403_0 {x1 : Int} {M : Mem} {Q : AR → Mem → Prop} : Tq 403 0 [vR 10 0, vI x1] [] M Q ↔ (((0 : Int) ≤ (if x1 ≤ 14 then 9 + 10 * (14 - x1) else -1) ∧ (if x1 ≤ 14 then 9 + 10 * (14 - x1) else -1) < (if x1 ≤ 14 then 10 + 10 * (14 - x1) else -1)) ∧ Tq 404 0 [vR 10 0, vI x1, vJ, vJ] [] M (kX (fun e9 M9 => Q (.inr e9) M9) (kV fun M1 => Tq 403 1 [vR 10 0, vI x1] [] M1 Q))) :=
  Tq_blk (is := bk_403_0) (dd := de_403) rfl rfl
/-- EarthOffice$Reader all block at 5 -/
theorem t403_1 {x1 : Int} {M : Mem} {Q : AR → Mem → Prop} : Tq 403 1 [vR 10 0, vI x1] [] M Q ↔ (Tq 400 0 [vR 10 0, vR 31 28, vJ, vJ] [] M (kI fun v1 M1 => if v1 = 0 then Tq 403 2 [vJ, vJ] [] M1 Q else Tq 405 0 [vR 10 0] [] M1 (kX (fun e9 M9 => Q (.inr e9) M9) (kV fun M2 => Tq 396 0 [vR 10 0, vJ, vJ] [] M2 (kV fun M3 => ((0 : Int) ≤ (if x1 ≤ 14 then 9 + 10 * (14 - x1) else -1) ∧ (if x1 ≤ 14 then 9 + 10 * (14 - x1) else -1) < (if x1 ≤ 14 then 10 + 10 * (14 - x1) else -1)) ∧ Tq 404 0 [vR 10 0, vI x1, vJ, vJ] [] M3 (kX (fun e9 M9 => Q (.inr e9) M9) (kV fun M4 => Tq 109 0 [vR 12 8, vI 30, vI 0, vI 0] [] M4 (kV fun M5 => Tq 403 1 [vR 10 0, vI x1] [] M5 Q)))))))) :=
  Tq_blk (is := bk_403_1) (dd := de_403) rfl rfl
/-- EarthOffice$Reader all block at 41 -/
theorem t403_2 {M : Mem} {Q : AR → Mem → Prop} : Tq 403 2 [vJ, vJ] [] M Q ↔ (Q (.inl none) M) :=
  Tq_blk (is := bk_403_2) (dd := de_403) rfl rfl
/-- EarthOffice$Reader one block at 0 -/
theorem t404_0 {x1 : Int} {M : Mem} {Q : AR → Mem → Prop} : Tq 404 0 [vR 10 0, vI x1, vJ, vJ] [] M Q ↔ (if (12 : Int) < x1 then Tq 404 1 [vR 10 0, vI x1, vJ, vJ] [vR 10 0] M Q else Tq 404 2 [vR 10 0, vI x1, vJ, vJ] [vI 1, vR 10 0] M Q) :=
  Tq_blk (is := bk_404_0) (dd := de_404) rfl rfl
/-- EarthOffice$Reader one block at 11 -/
theorem t404_1 {x1 : Int} {M : Mem} {Q : AR → Mem → Prop} : Tq 404 1 [vR 10 0, vI x1, vJ, vJ] [vR 10 0] M Q ↔ (Tq 404 2 [vR 10 0, vI x1, vJ, vJ] [vI 0, vR 10 0] M Q) :=
  Tq_blk (is := bk_404_1) (dd := de_404) rfl rfl
/-- EarthOffice$Reader one block at 12 -/
theorem t404_2 {x1 s0 : Int} {M : Mem} {Q : AR → Mem → Prop} : Tq 404 2 [vR 10 0, vI x1, vJ, vJ] [vI s0, vR 10 0] M Q ↔ (Tq 401 0 [vR 10 0, vI s0] [] M (kX (fun e9 M9 => Q (.inr e9) M9) (kV fun M1 => Tq 400 0 [vR 10 0, vR 31 29, vJ, vJ] [] M1 (kI fun v1 M2 => if v1 = 0 then Tq 404 3 [vR 10 0, vI x1, vJ, vJ] [] M2 Q else Tq 405 0 [vR 10 0] [] M2 (kX (fun e9 M9 => Q (.inr e9) M9) (kV fun M3 => Tq 396 0 [vR 10 0, vJ, vJ] [] M3 (kV fun M4 => ((0 : Int) ≤ (if (w32 (x1 + 1)) ≤ 14 then 9 + 10 * (14 - (w32 (x1 + 1))) else -1) ∧ (if (w32 (x1 + 1)) ≤ 14 then 9 + 10 * (14 - (w32 (x1 + 1))) else -1) < (if x1 ≤ 14 then 9 + 10 * (14 - x1) else -1)) ∧ Tq 404 0 [vR 10 0, vI (w32 (x1 + 1)), vJ, vJ] [] M4 (kX (fun e9 M9 => Q (.inr e9) M9) (kV fun M5 => Tq 109 0 [vR 12 8, vI 32, vI 0, vI 0] [] M5 (kV fun M6 => Tq 404 16 [vJ, vJ, vJ, vJ] [] M6 Q)))))))))) :=
  Tq_blk (is := bk_404_2) (dd := de_404) rfl rfl
/-- EarthOffice$Reader one block at 53 -/
theorem t404_3 {x1 : Int} {M : Mem} {Q : AR → Mem → Prop} : Tq 404 3 [vR 10 0, vI x1, vJ, vJ] [] M Q ↔ (Tq 400 0 [vR 10 0, vR 31 30, vJ, vJ] [] M (kI fun v1 M1 => if v1 = 0 then Tq 404 5 [vR 10 0, vI x1, vJ, vJ] [] M1 Q else Tq 405 0 [vR 10 0] [] M1 (kX (fun e9 M9 => Q (.inr e9) M9) (kV fun M2 => Tq 396 0 [vR 10 0, vJ, vJ] [] M2 (kV fun M3 => Tq 406 0 [vR 10 0, vJ, vJ] [] M3 (kX (fun e9 M9 => Q (.inr e9) M9) (kI fun v2 M4 => Tq 25 0 [vI v2, vI 1, vI 999] [] M4 (kI fun v3 M5 => if ¬ v3 = 0 then Tq 404 4 [vR 10 0, vI x1, vJ, vI v2] [] M5 Q else Tq 107 0 [vR 11 0, vI (M3 10 0 3)] [] M5 (kR 11 fun v4 M6 => Q (.inr v4) M6))))))))) :=
  Tq_blk (is := bk_404_3) (dd := de_404) rfl rfl
/-- EarthOffice$Reader one block at 100 -/
theorem t404_4 {x1 x3 : Int} {M : Mem} {Q : AR → Mem → Prop} : Tq 404 4 [vR 10 0, vI x1, vJ, vI x3] [] M Q ↔ (((0 : Int) ≤ (if (w32 (x1 + 1)) ≤ 14 then 9 + 10 * (14 - (w32 (x1 + 1))) else -1) ∧ (if (w32 (x1 + 1)) ≤ 14 then 9 + 10 * (14 - (w32 (x1 + 1))) else -1) < (if x1 ≤ 14 then 9 + 10 * (14 - x1) else -1)) ∧ Tq 404 0 [vR 10 0, vI (w32 (x1 + 1)), vJ, vJ] [] M (kX (fun e9 M9 => Q (.inr e9) M9) (kV fun M1 => Tq 109 0 [vR 12 8, vI 33, vI x3, vI 0] [] M1 (kV fun M2 => Tq 404 16 [vJ, vJ, vJ, vJ] [] M2 Q)))) :=
  Tq_blk (is := bk_404_4) (dd := de_404) rfl rfl
/-- EarthOffice$Reader one block at 121 -/
theorem t404_5 {x1 : Int} {M : Mem} {Q : AR → Mem → Prop} : Tq 404 5 [vR 10 0, vI x1, vJ, vJ] [] M Q ↔ (Tq 400 0 [vR 10 0, vR 31 31, vJ, vJ] [] M (kI fun v1 M1 => if v1 = 0 then Tq 404 6 [vR 10 0, vI x1, vJ, vJ] [] M1 Q else Tq 396 0 [vR 10 0, vJ, vJ] [] M1 (kV fun M2 => ((0 : Int) ≤ (if (w32 (x1 + 1)) ≤ 14 then 11 + 10 * (14 - (w32 (x1 + 1))) else -1) ∧ (if (w32 (x1 + 1)) ≤ 14 then 11 + 10 * (14 - (w32 (x1 + 1))) else -1) < (if x1 ≤ 14 then 9 + 10 * (14 - x1) else -1)) ∧ Tq 402 0 [vR 10 0, vI (w32 (x1 + 1))] [] M2 (kX (fun e9 M9 => Q (.inr e9) M9) (kV fun M3 => Tq 399 0 [vR 10 0, vR 31 32] [] M3 (kX (fun e9 M9 => Q (.inr e9) M9) (kV fun M4 => Tq 404 16 [vJ, vJ, vJ, vJ] [] M4 Q))))))) :=
  Tq_blk (is := bk_404_5) (dd := de_404) rfl rfl
/-- EarthOffice$Reader one block at 150 -/
theorem t404_6 {x1 : Int} {M : Mem} {Q : AR → Mem → Prop} : Tq 404 6 [vR 10 0, vI x1, vJ, vJ] [] M Q ↔ (((0 : Int) ≤ (if x1 ≤ 14 then 8 + 10 * (14 - x1) else -1) ∧ (if x1 ≤ 14 then 8 + 10 * (14 - x1) else -1) < (if x1 ≤ 14 then 9 + 10 * (14 - x1) else -1)) ∧ Tq 407 0 [vR 10 0, vI x1, vJ] [] M (kX (fun e9 M9 => Q (.inr e9) M9) (kV fun M1 => Tq 400 0 [vR 10 0, vR 31 33, vJ, vJ] [] M1 (kI fun v1 M2 => if v1 = 0 then Tq 404 7 [vR 10 0, vI x1, vJ, vJ] [] M2 Q else Tq 404 13 [vR 10 0, vI x1, vJ, vJ] [vI 24] M2 Q)))) :=
  Tq_blk (is := bk_404_6) (dd := de_404) rfl rfl
/-- EarthOffice$Reader one block at 169 -/
theorem t404_7 {x1 : Int} {M : Mem} {Q : AR → Mem → Prop} : Tq 404 7 [vR 10 0, vI x1, vJ, vJ] [] M Q ↔ (Tq 400 0 [vR 10 0, vR 31 34, vJ, vJ] [] M (kI fun v1 M1 => if v1 = 0 then Tq 404 8 [vR 10 0, vI x1, vJ, vJ] [] M1 Q else Tq 404 13 [vR 10 0, vI x1, vJ, vJ] [vI 25] M1 Q)) :=
  Tq_blk (is := bk_404_7) (dd := de_404) rfl rfl
/-- EarthOffice$Reader one block at 183 -/
theorem t404_8 {x1 : Int} {M : Mem} {Q : AR → Mem → Prop} : Tq 404 8 [vR 10 0, vI x1, vJ, vJ] [] M Q ↔ (Tq 400 0 [vR 10 0, vR 31 35, vJ, vJ] [] M (kI fun v1 M1 => if v1 = 0 then Tq 404 9 [vR 10 0, vI x1, vJ, vJ] [] M1 Q else Tq 404 13 [vR 10 0, vI x1, vJ, vJ] [vI 26] M1 Q)) :=
  Tq_blk (is := bk_404_8) (dd := de_404) rfl rfl
/-- EarthOffice$Reader one block at 197 -/
theorem t404_9 {x1 : Int} {M : Mem} {Q : AR → Mem → Prop} : Tq 404 9 [vR 10 0, vI x1, vJ, vJ] [] M Q ↔ (Tq 400 0 [vR 10 0, vR 31 36, vJ, vJ] [] M (kI fun v1 M1 => if v1 = 0 then Tq 404 10 [vR 10 0, vI x1, vJ, vJ] [] M1 Q else Tq 404 13 [vR 10 0, vI x1, vJ, vJ] [vI 27] M1 Q)) :=
  Tq_blk (is := bk_404_9) (dd := de_404) rfl rfl
/-- EarthOffice$Reader one block at 211 -/
theorem t404_10 {x1 : Int} {M : Mem} {Q : AR → Mem → Prop} : Tq 404 10 [vR 10 0, vI x1, vJ, vJ] [] M Q ↔ (Tq 400 0 [vR 10 0, vR 31 37, vJ, vJ] [] M (kI fun v1 M1 => if v1 = 0 then Tq 404 11 [vR 10 0, vI x1, vJ, vJ] [] M1 Q else Tq 404 13 [vR 10 0, vI x1, vJ, vJ] [vI 28] M1 Q)) :=
  Tq_blk (is := bk_404_10) (dd := de_404) rfl rfl
/-- EarthOffice$Reader one block at 225 -/
theorem t404_11 {x1 : Int} {M : Mem} {Q : AR → Mem → Prop} : Tq 404 11 [vR 10 0, vI x1, vJ, vJ] [] M Q ↔ (Tq 400 0 [vR 10 0, vR 31 38, vJ, vJ] [] M (kI fun v1 M1 => if v1 = 0 then Tq 404 12 [vR 10 0, vI x1, vJ, vJ] [] M1 Q else Tq 404 13 [vR 10 0, vI x1, vJ, vJ] [vI 29] M1 Q)) :=
  Tq_blk (is := bk_404_11) (dd := de_404) rfl rfl
/-- EarthOffice$Reader one block at 239 -/
theorem t404_12 {x1 : Int} {M : Mem} {Q : AR → Mem → Prop} : Tq 404 12 [vR 10 0, vI x1, vJ, vJ] [] M Q ↔ (Tq 404 13 [vR 10 0, vI x1, vJ, vJ] [vI (-99999999)] M Q) :=
  Tq_blk (is := bk_404_12) (dd := de_404) rfl rfl
/-- EarthOffice$Reader one block at 241 -/
theorem t404_13 {x1 s0 : Int} {M : Mem} {Q : AR → Mem → Prop} : Tq 404 13 [vR 10 0, vI x1, vJ, vJ] [vI s0] M Q ↔ (if s0 = (-99999999) then Tq 404 14 [vR 10 0, vI x1, vI s0, vJ] [vR 10 0] M Q else Tq 404 15 [vR 10 0, vI x1, vI s0, vJ] [vI 1, vR 10 0] M Q) :=
  Tq_blk (is := bk_404_13) (dd := de_404) rfl rfl
/-- EarthOffice$Reader one block at 253 -/
theorem t404_14 {x1 x2 : Int} {M : Mem} {Q : AR → Mem → Prop} : Tq 404 14 [vR 10 0, vI x1, vI x2, vJ] [vR 10 0] M Q ↔ (Tq 404 15 [vR 10 0, vI x1, vI x2, vJ] [vI 0, vR 10 0] M Q) :=
  Tq_blk (is := bk_404_14) (dd := de_404) rfl rfl
/-- EarthOffice$Reader one block at 254 -/
theorem t404_15 {x1 x2 s0 : Int} {M : Mem} {Q : AR → Mem → Prop} : Tq 404 15 [vR 10 0, vI x1, vI x2, vJ] [vI s0, vR 10 0] M Q ↔ (Tq 401 0 [vR 10 0, vI s0] [] M (kX (fun e9 M9 => Q (.inr e9) M9) (kV fun M1 => Tq 405 0 [vR 10 0] [] M1 (kX (fun e9 M9 => Q (.inr e9) M9) (kV fun M2 => Tq 396 0 [vR 10 0, vJ, vJ] [] M2 (kV fun M3 => ((0 : Int) ≤ (if x1 ≤ 14 then 8 + 10 * (14 - x1) else -1) ∧ (if x1 ≤ 14 then 8 + 10 * (14 - x1) else -1) < (if x1 ≤ 14 then 9 + 10 * (14 - x1) else -1)) ∧ Tq 407 0 [vR 10 0, vI x1, vJ] [] M3 (kX (fun e9 M9 => Q (.inr e9) M9) (kV fun M4 => Tq 109 0 [vR 12 8, vI x2, vI 0, vI 0] [] M4 (kV fun M5 => Tq 404 16 [vJ, vJ, vJ, vJ] [] M5 Q))))))))) :=
  Tq_blk (is := bk_404_15) (dd := de_404) rfl rfl
/-- EarthOffice$Reader one block at 280 -/
theorem t404_16 {M : Mem} {Q : AR → Mem → Prop} : Tq 404 16 [vJ, vJ, vJ, vJ] [] M Q ↔ (Q (.inl none) M) :=
  Tq_blk (is := bk_404_16) (dd := de_404) rfl rfl
/-- EarthOffice$Reader count block at 0 -/
theorem t405_0 {M : Mem} {Q : AR → Mem → Prop} : Tq 405 0 [vR 10 0] [] M Q ↔ (if (60 : Int) ≤ M 10 0 6 then Tq 405 1 [vR 10 0] [vR 10 0] M Q else Tq 405 2 [vR 10 0] [vI 1, vR 10 0] M Q) :=
  Tq_blk (is := bk_405_0) (dd := de_405) rfl rfl
/-- EarthOffice$Reader count block at 14 -/
theorem t405_1 {M : Mem} {Q : AR → Mem → Prop} : Tq 405 1 [vR 10 0] [vR 10 0] M Q ↔ (Tq 405 2 [vR 10 0] [vI 0, vR 10 0] M Q) :=
  Tq_blk (is := bk_405_1) (dd := de_405) rfl rfl
/-- EarthOffice$Reader count block at 15 -/
theorem t405_2 {s0 : Int} {M : Mem} {Q : AR → Mem → Prop} : Tq 405 2 [vR 10 0] [vI s0, vR 10 0] M Q ↔ (Tq 401 0 [vR 10 0, vI s0] [] M (kX (fun e9 M9 => Q (.inr e9) M9) (kV fun M1 => bd (mset M1 10 0 6 (w32 (M1 10 0 6 + 1))) fun M2 => Q (.inl none) M2))) :=
  Tq_blk (is := bk_405_2) (dd := de_405) rfl rfl
/-- EarthOffice$Reader number block at 0 -/
theorem t406_0 {M : Mem} {Q : AR → Mem → Prop} : Tq 406 0 [vR 10 0, vJ, vJ] [] M Q ↔ (if ¬ M 10 0 5 = (1 : Int) then Tq 406 1 [vR 10 0, vJ, vJ] [vR 10 0] M Q else if (6 : Int) < w32 (M 10 0 4 - (M 10 0 3)) then Tq 406 1 [vR 10 0, vJ, vJ] [vR 10 0] M Q else Tq 406 2 [vR 10 0, vJ, vJ] [vI 1, vR 10 0] M Q) :=
  Tq_blk (is := bk_406_0) (dd := de_406) rfl rfl
/-- EarthOffice$Reader number block at 27 -/
theorem t406_1 {M : Mem} {Q : AR → Mem → Prop} : Tq 406 1 [vR 10 0, vJ, vJ] [vR 10 0] M Q ↔ (Tq 406 2 [vR 10 0, vJ, vJ] [vI 0, vR 10 0] M Q) :=
  Tq_blk (is := bk_406_1) (dd := de_406) rfl rfl
/-- EarthOffice$Reader number block at 28 -/
theorem t406_2 {s0 : Int} {M : Mem} {Q : AR → Mem → Prop} : Tq 406 2 [vR 10 0, vJ, vJ] [vI s0, vR 10 0] M Q ↔ (Tq 401 0 [vR 10 0, vI s0] [] M (kX (fun e9 M9 => Q (.inr e9) M9) (kV fun M1 => Tq 406 3 [vR 10 0, vI 0, vI (M1 10 0 3)] [] M1 Q))) :=
  Tq_blk (is := bk_406_2) (dd := de_406) rfl rfl
/-- EarthOffice$Reader number block at 38 -/
theorem t406_3 {x1 x2 : Int} {M : Mem} {Q : AR → Mem → Prop} : Tq 406 3 [vR 10 0, vI x1, vI x2] [] M Q ↔ (if M 10 0 4 ≤ x2 then Tq 406 4 [vR 10 0, vI x1, vJ] [] M Q else (0 ≤ M 10 0 2) ∧ Tq 114 0 [vR 13 (M 10 0 2), vI x2] [] M (kI fun v1 M1 => Tq 406 3 [vR 10 0, vI (w32 (w32 (w32 (10 * x1) + v1) - 48)), vI (w32 (x2 + 1))] [] M1 Q)) :=
  Tq_blk (is := bk_406_3) (dd := de_406) rfl rfl
/-- EarthOffice$Reader number block at 69 -/
theorem t406_4 {x1 : Int} {M : Mem} {Q : AR → Mem → Prop} : Tq 406 4 [vR 10 0, vI x1, vJ] [] M Q ↔ (Tq 396 0 [vR 10 0, vJ, vJ] [] M (kV fun M1 => Q (.inl (some (vI x1))) M1)) :=
  Tq_blk (is := bk_406_4) (dd := de_406) rfl rfl
/-- EarthOffice$Reader sum block at 0 -/
theorem t407_0 {x1 : Int} {M : Mem} {Q : AR → Mem → Prop} : Tq 407 0 [vR 10 0, vI x1, vJ] [] M Q ↔ (if (12 : Int) < x1 then Tq 407 1 [vR 10 0, vI x1, vJ] [vR 10 0] M Q else Tq 407 2 [vR 10 0, vI x1, vJ] [vI 1, vR 10 0] M Q) :=
  Tq_blk (is := bk_407_0) (dd := de_407) rfl rfl
/-- EarthOffice$Reader sum block at 11 -/
theorem t407_1 {x1 : Int} {M : Mem} {Q : AR → Mem → Prop} : Tq 407 1 [vR 10 0, vI x1, vJ] [vR 10 0] M Q ↔ (Tq 407 2 [vR 10 0, vI x1, vJ] [vI 0, vR 10 0] M Q) :=
  Tq_blk (is := bk_407_1) (dd := de_407) rfl rfl
/-- EarthOffice$Reader sum block at 12 -/
theorem t407_2 {x1 s0 : Int} {M : Mem} {Q : AR → Mem → Prop} : Tq 407 2 [vR 10 0, vI x1, vJ] [vI s0, vR 10 0] M Q ↔ (Tq 401 0 [vR 10 0, vI s0] [] M (kX (fun e9 M9 => Q (.inr e9) M9) (kV fun M1 => ((0 : Int) ≤ (if x1 ≤ 14 then 7 + 10 * (14 - x1) else -1) ∧ (if x1 ≤ 14 then 7 + 10 * (14 - x1) else -1) < (if x1 ≤ 14 then 8 + 10 * (14 - x1) else -1)) ∧ Tq 408 0 [vR 10 0, vI x1, vJ] [] M1 (kX (fun e9 M9 => Q (.inr e9) M9) (kV fun M2 => Tq 407 3 [vR 10 0, vI x1, vJ] [] M2 Q))))) :=
  Tq_blk (is := bk_407_2) (dd := de_407) rfl rfl
/-- EarthOffice$Reader sum block at 20 -/
theorem t407_3 {x1 : Int} {M : Mem} {Q : AR → Mem → Prop} : Tq 407 3 [vR 10 0, vI x1, vJ] [] M Q ↔ (Tq 400 0 [vR 10 0, vR 31 39, vJ, vJ] [] M (kI fun v1 M1 => if ¬ v1 = 0 then Tq 407 4 [vR 10 0, vI x1, vJ] [] M1 Q else Tq 400 0 [vR 10 0, vR 31 40, vJ, vJ] [] M1 (kI fun v2 M2 => if v2 = 0 then Tq 407 7 [vJ, vJ, vJ] [] M2 Q else Tq 407 4 [vR 10 0, vI x1, vJ] [] M2 Q))) :=
  Tq_blk (is := bk_407_3) (dd := de_407) rfl rfl
/-- EarthOffice$Reader sum block at 38 -/
theorem t407_4 {x1 : Int} {M : Mem} {Q : AR → Mem → Prop} : Tq 407 4 [vR 10 0, vI x1, vJ] [] M Q ↔ (Tq 400 0 [vR 10 0, vR 31 39, vJ, vJ] [] M (kI fun v1 M1 => if v1 = 0 then Tq 407 5 [vR 10 0, vI x1, vJ] [] M1 Q else Tq 407 6 [vR 10 0, vI x1, vJ] [vI 20] M1 Q)) :=
  Tq_blk (is := bk_407_4) (dd := de_407) rfl rfl
/-- EarthOffice$Reader sum block at 52 -/
theorem t407_5 {x1 : Int} {M : Mem} {Q : AR → Mem → Prop} : Tq 407 5 [vR 10 0, vI x1, vJ] [] M Q ↔ (Tq 407 6 [vR 10 0, vI x1, vJ] [vI 21] M Q) :=
  Tq_blk (is := bk_407_5) (dd := de_407) rfl rfl
/-- EarthOffice$Reader sum block at 54 -/
theorem t407_6 {x1 s0 : Int} {M : Mem} {Q : AR → Mem → Prop} : Tq 407 6 [vR 10 0, vI x1, vJ] [vI s0] M Q ↔ (Tq 405 0 [vR 10 0] [] M (kX (fun e9 M9 => Q (.inr e9) M9) (kV fun M1 => Tq 396 0 [vR 10 0, vJ, vJ] [] M1 (kV fun M2 => ((0 : Int) ≤ (if x1 ≤ 14 then 7 + 10 * (14 - x1) else -1) ∧ (if x1 ≤ 14 then 7 + 10 * (14 - x1) else -1) < (if x1 ≤ 14 then 8 + 10 * (14 - x1) else -1)) ∧ Tq 408 0 [vR 10 0, vI x1, vJ] [] M2 (kX (fun e9 M9 => Q (.inr e9) M9) (kV fun M3 => Tq 109 0 [vR 12 8, vI s0, vI 0, vI 0] [] M3 (kV fun M4 => Tq 407 3 [vR 10 0, vI x1, vJ] [] M4 Q))))))) :=
  Tq_blk (is := bk_407_6) (dd := de_407) rfl rfl
/-- EarthOffice$Reader sum block at 81 -/
theorem t407_7 {M : Mem} {Q : AR → Mem → Prop} : Tq 407 7 [vJ, vJ, vJ] [] M Q ↔ (Q (.inl none) M) :=
  Tq_blk (is := bk_407_7) (dd := de_407) rfl rfl
/-- EarthOffice$Reader term block at 0 -/
theorem t408_0 {x1 : Int} {M : Mem} {Q : AR → Mem → Prop} : Tq 408 0 [vR 10 0, vI x1, vJ] [] M Q ↔ (((0 : Int) ≤ (if x1 ≤ 14 then 6 + 10 * (14 - x1) else -1) ∧ (if x1 ≤ 14 then 6 + 10 * (14 - x1) else -1) < (if x1 ≤ 14 then 7 + 10 * (14 - x1) else -1)) ∧ Tq 409 0 [vR 10 0, vI x1, vJ, vJ, vJ, vJ] [] M (kX (fun e9 M9 => Q (.inr e9) M9) (kV fun M1 => Tq 408 1 [vR 10 0, vI x1, vJ] [] M1 Q))) :=
  Tq_blk (is := bk_408_0) (dd := de_408) rfl rfl
/-- EarthOffice$Reader term block at 5 -/
theorem t408_1 {x1 : Int} {M : Mem} {Q : AR → Mem → Prop} : Tq 408 1 [vR 10 0, vI x1, vJ] [] M Q ↔ (Tq 400 0 [vR 10 0, vR 31 41, vJ, vJ] [] M (kI fun v1 M1 => if ¬ v1 = 0 then Tq 408 2 [vR 10 0, vI x1, vJ] [] M1 Q else Tq 400 0 [vR 10 0, vR 31 42, vJ, vJ] [] M1 (kI fun v2 M2 => if v2 = 0 then Tq 408 5 [vJ, vJ, vJ] [] M2 Q else Tq 408 2 [vR 10 0, vI x1, vJ] [] M2 Q))) :=
  Tq_blk (is := bk_408_1) (dd := de_408) rfl rfl
/-- EarthOffice$Reader term block at 23 -/
theorem t408_2 {x1 : Int} {M : Mem} {Q : AR → Mem → Prop} : Tq 408 2 [vR 10 0, vI x1, vJ] [] M Q ↔ (Tq 400 0 [vR 10 0, vR 31 41, vJ, vJ] [] M (kI fun v1 M1 => if v1 = 0 then Tq 408 3 [vR 10 0, vI x1, vJ] [] M1 Q else Tq 408 4 [vR 10 0, vI x1, vJ] [vI 22] M1 Q)) :=
  Tq_blk (is := bk_408_2) (dd := de_408) rfl rfl
/-- EarthOffice$Reader term block at 37 -/
theorem t408_3 {x1 : Int} {M : Mem} {Q : AR → Mem → Prop} : Tq 408 3 [vR 10 0, vI x1, vJ] [] M Q ↔ (Tq 408 4 [vR 10 0, vI x1, vJ] [vI 23] M Q) :=
  Tq_blk (is := bk_408_3) (dd := de_408) rfl rfl
/-- EarthOffice$Reader term block at 39 -/
theorem t408_4 {x1 s0 : Int} {M : Mem} {Q : AR → Mem → Prop} : Tq 408 4 [vR 10 0, vI x1, vJ] [vI s0] M Q ↔ (Tq 405 0 [vR 10 0] [] M (kX (fun e9 M9 => Q (.inr e9) M9) (kV fun M1 => Tq 396 0 [vR 10 0, vJ, vJ] [] M1 (kV fun M2 => ((0 : Int) ≤ (if x1 ≤ 14 then 6 + 10 * (14 - x1) else -1) ∧ (if x1 ≤ 14 then 6 + 10 * (14 - x1) else -1) < (if x1 ≤ 14 then 7 + 10 * (14 - x1) else -1)) ∧ Tq 409 0 [vR 10 0, vI x1, vJ, vJ, vJ, vJ] [] M2 (kX (fun e9 M9 => Q (.inr e9) M9) (kV fun M3 => Tq 109 0 [vR 12 8, vI s0, vI 0, vI 0] [] M3 (kV fun M4 => Tq 408 1 [vR 10 0, vI x1, vJ] [] M4 Q))))))) :=
  Tq_blk (is := bk_408_4) (dd := de_408) rfl rfl
/-- EarthOffice$Reader term block at 66 -/
theorem t408_5 {M : Mem} {Q : AR → Mem → Prop} : Tq 408 5 [vJ, vJ, vJ] [] M Q ↔ (Q (.inl none) M) :=
  Tq_blk (is := bk_408_5) (dd := de_408) rfl rfl
/-- EarthOffice$Reader part block at 0 -/
theorem t409_0 {x1 : Int} {M : Mem} {Q : AR → Mem → Prop} : Tq 409 0 [vR 10 0, vI x1, vJ, vJ, vJ, vJ] [] M Q ↔ (Tq 400 0 [vR 10 0, vR 31 43, vJ, vJ] [] M (kI fun v1 M1 => if v1 = 0 then Tq 409 1 [vR 10 0, vJ, vJ, vJ, vJ, vJ] [] M1 Q else Tq 396 0 [vR 10 0, vJ, vJ] [] M1 (kV fun M2 => ((0 : Int) ≤ (if (w32 (x1 + 1)) ≤ 14 then 8 + 10 * (14 - (w32 (x1 + 1))) else -1) ∧ (if (w32 (x1 + 1)) ≤ 14 then 8 + 10 * (14 - (w32 (x1 + 1))) else -1) < (if x1 ≤ 14 then 6 + 10 * (14 - x1) else -1)) ∧ Tq 407 0 [vR 10 0, vI (w32 (x1 + 1)), vJ] [] M2 (kX (fun e9 M9 => Q (.inr e9) M9) (kV fun M3 => Tq 399 0 [vR 10 0, vR 31 44] [] M3 (kX (fun e9 M9 => Q (.inr e9) M9) (kV fun M4 => Q (.inl none) M4))))))) :=
  Tq_blk (is := bk_409_0) (dd := de_409) rfl rfl
/-- EarthOffice$Reader part block at 27 -/
theorem t409_1 {M : Mem} {Q : AR → Mem → Prop} : Tq 409 1 [vR 10 0, vJ, vJ, vJ, vJ, vJ] [] M Q ↔ (if ¬ M 10 0 5 = (1 : Int) then Tq 409 4 [vR 10 0, vJ, vJ, vJ, vJ, vJ] [] M Q else if (6 : Int) < w32 (M 10 0 4 - (M 10 0 3)) then Tq 409 2 [vR 10 0, vJ, vJ, vJ, vJ, vJ] [vR 10 0] M Q else Tq 409 3 [vR 10 0, vJ, vJ, vJ, vJ, vJ] [vI 1, vR 10 0] M Q) :=
  Tq_blk (is := bk_409_1) (dd := de_409) rfl rfl
/-- EarthOffice$Reader part block at 54 -/
theorem t409_2 {M : Mem} {Q : AR → Mem → Prop} : Tq 409 2 [vR 10 0, vJ, vJ, vJ, vJ, vJ] [vR 10 0] M Q ↔ (Tq 409 3 [vR 10 0, vJ, vJ, vJ, vJ, vJ] [vI 0, vR 10 0] M Q) :=
  Tq_blk (is := bk_409_2) (dd := de_409) rfl rfl
/-- EarthOffice$Reader part block at 55 -/
theorem t409_3 {s0 : Int} {M : Mem} {Q : AR → Mem → Prop} : Tq 409 3 [vR 10 0, vJ, vJ, vJ, vJ, vJ] [vI s0, vR 10 0] M Q ↔ (Tq 401 0 [vR 10 0, vI s0] [] M (kX (fun e9 M9 => Q (.inr e9) M9) (kV fun M1 => Tq 405 0 [vR 10 0] [] M1 (kX (fun e9 M9 => Q (.inr e9) M9) (kV fun M2 => Tq 406 0 [vR 10 0, vJ, vJ] [] M2 (kX (fun e9 M9 => Q (.inr e9) M9) (kI fun v1 M3 => Tq 109 0 [vR 12 8, vI 0, vI v1, vI 0] [] M3 (kV fun M4 => Q (.inl none) M4)))))))) :=
  Tq_blk (is := bk_409_3) (dd := de_409) rfl rfl
/-- EarthOffice$Reader part block at 76 -/
theorem t409_4 {M : Mem} {Q : AR → Mem → Prop} : Tq 409 4 [vR 10 0, vJ, vJ, vJ, vJ, vJ] [] M Q ↔ (if ¬ M 10 0 5 = 0 then Tq 409 5 [vR 10 0, vJ, vJ, vJ, vJ, vJ] [] M Q else Tq 410 0 [vR 10 0, vR 31 45, vI (M 10 0 3), vI (M 10 0 4), vJ, vJ, vJ, vJ, vJ] [] M (kI fun v1 M1 => Tq 409 6 [vR 10 0, vJ, vJ, vJ, vJ, vJ] [vI v1] M1 Q)) :=
  Tq_blk (is := bk_409_4) (dd := de_409) rfl rfl
/-- EarthOffice$Reader part block at 100 -/
theorem t409_5 {M : Mem} {Q : AR → Mem → Prop} : Tq 409 5 [vR 10 0, vJ, vJ, vJ, vJ, vJ] [] M Q ↔ (Tq 409 6 [vR 10 0, vJ, vJ, vJ, vJ, vJ] [vI (-99999999)] M Q) :=
  Tq_blk (is := bk_409_5) (dd := de_409) rfl rfl
/-- EarthOffice$Reader part block at 102 -/
theorem t409_6 {s0 : Int} {M : Mem} {Q : AR → Mem → Prop} : Tq 409 6 [vR 10 0, vJ, vJ, vJ, vJ, vJ] [vI s0] M Q ↔ (if s0 = (-99999999) then Tq 409 7 [vR 10 0, vJ, vI s0, vJ, vJ, vJ] [vR 10 0] M Q else Tq 409 8 [vR 10 0, vJ, vI s0, vJ, vJ, vJ] [vI 1, vR 10 0] M Q) :=
  Tq_blk (is := bk_409_6) (dd := de_409) rfl rfl
/-- EarthOffice$Reader part block at 114 -/
theorem t409_7 {x2 : Int} {M : Mem} {Q : AR → Mem → Prop} : Tq 409 7 [vR 10 0, vJ, vI x2, vJ, vJ, vJ] [vR 10 0] M Q ↔ (Tq 409 8 [vR 10 0, vJ, vI x2, vJ, vJ, vJ] [vI 0, vR 10 0] M Q) :=
  Tq_blk (is := bk_409_7) (dd := de_409) rfl rfl
/-- EarthOffice$Reader part block at 115 -/
theorem t409_8 {x2 s0 : Int} {M : Mem} {Q : AR → Mem → Prop} : Tq 409 8 [vR 10 0, vJ, vI x2, vJ, vJ, vJ] [vI s0, vR 10 0] M Q ↔ (Tq 401 0 [vR 10 0, vI s0] [] M (kX (fun e9 M9 => Q (.inr e9) M9) (kV fun M1 => Tq 405 0 [vR 10 0] [] M1 (kX (fun e9 M9 => Q (.inr e9) M9) (kV fun M2 => Tq 396 0 [vR 10 0, vJ, vJ] [] M2 (kV fun M3 => if w32 (1 + x2) < (10 : Int) then Tq 409 9 [vR 10 0, vJ, vJ, vI (w32 (1 + x2)), vJ, vJ] [] M3 Q else Tq 406 0 [vR 10 0, vJ, vJ] [] M3 (kX (fun e9 M9 => Q (.inr e9) M9) (kI fun v1 M4 => Tq 409 10 [vR 10 0, vJ, vJ, vI (w32 (1 + x2)), vJ, vJ] [vI v1] M4 Q)))))))) :=
  Tq_blk (is := bk_409_8) (dd := de_409) rfl rfl
/-- EarthOffice$Reader part block at 143 -/
theorem t409_9 {x3 : Int} {M : Mem} {Q : AR → Mem → Prop} : Tq 409 9 [vR 10 0, vJ, vJ, vI x3, vJ, vJ] [] M Q ↔ (Tq 409 10 [vR 10 0, vJ, vJ, vI x3, vJ, vJ] [vI 0] M Q) :=
  Tq_blk (is := bk_409_9) (dd := de_409) rfl rfl
/-- EarthOffice$Reader part block at 144 -/
theorem t409_10 {x3 s0 : Int} {M : Mem} {Q : AR → Mem → Prop} : Tq 409 10 [vR 10 0, vJ, vJ, vI x3, vJ, vJ] [vI s0] M Q ↔ (if ¬ x3 = (13 : Int) then Tq 409 11 [vR 10 0, vJ, vJ, vI x3, vI s0, vJ] [] M Q else Tq 406 0 [vR 10 0, vJ, vJ] [] M (kX (fun e9 M9 => Q (.inr e9) M9) (kI fun v1 M1 => Tq 409 12 [vR 10 0, vJ, vJ, vI x3, vI s0, vJ] [vI v1] M1 Q))) :=
  Tq_blk (is := bk_409_10) (dd := de_409) rfl rfl
/-- EarthOffice$Reader part block at 159 -/
theorem t409_11 {x3 x4 : Int} {M : Mem} {Q : AR → Mem → Prop} : Tq 409 11 [vR 10 0, vJ, vJ, vI x3, vI x4, vJ] [] M Q ↔ (Tq 409 12 [vR 10 0, vJ, vJ, vI x3, vI x4, vJ] [vI 0] M Q) :=
  Tq_blk (is := bk_409_11) (dd := de_409) rfl rfl
/-- EarthOffice$Reader part block at 160 -/
theorem t409_12 {x3 x4 s0 : Int} {M : Mem} {Q : AR → Mem → Prop} : Tq 409 12 [vR 10 0, vJ, vJ, vI x3, vI x4, vJ] [vI s0] M Q ↔ (Tq 109 0 [vR 12 8, vI x3, vI x4, vI s0] [] M (kV fun M1 => Q (.inl none) M1)) :=
  Tq_blk (is := bk_409_12) (dd := de_409) rfl rfl
/-- EarthOffice$Reader which block at 0 -/
theorem t410_0 {x1 x2 x3 : Int} {M : Mem} {Q : AR → Mem → Prop} : Tq 410 0 [vR 10 0, vR 31 x1, vI x2, vI x3, vJ, vJ, vJ, vJ, vJ] [] M Q ↔ (Tq 410 1 [vR 10 0, vR 31 x1, vI x2, vI x3, vI 0, vI 0, vI 0, vJ, vJ] [] M Q) :=
  Tq_blk (is := bk_410_0) (dd := de_410) rfl rfl
/-- EarthOffice$Reader which block at 9 -/
theorem t410_1_c13 {x1 x2 x3 x4 x5 x6 s0 s1 : Int} {M : Mem} {Q : AR → Mem → Prop} : Bq 410 de_410 (List.drop 13 bk_410_1) [vR 10 0, vR 31 x1, vI x2, vI x3, vI x4, vI x5, vI x6, vJ, vJ] [vI s0, vI s1] M Q ↔ (if ¬ s1 = w32 (s0 - x2) then Tq 410 2 [vR 10 0, vR 31 x1, vI x2, vI x3, vI x4, vI x5, vI x6, vJ, vJ] [] M Q else Tq 410 3 [vR 10 0, vR 31 x1, vI x2, vI x3, vI x4, vI x5, vI x6, vJ, vJ] [vI 1] M Q) :=
  Iff.rfl
theorem t410_1_c7 {x1 x2 x3 x4 x5 x6 s0 : Int} {M : Mem} {Q : AR → Mem → Prop} : Bq 410 de_410 (List.drop 7 bk_410_1) [vR 10 0, vR 31 x1, vI x2, vI x3, vI x4, vI x5, vI x6, vJ, vJ] [vI s0] M Q ↔ (if ¬ s0 = (32 : Int) then Tq 410 9 [vR 10 0, vR 31 x1, vI x2, vI x3, vI x4, vI x5, vI x6, vJ, vJ] [] M Q else if ¬ w32 (x6 - x5) = w32 (x3 - x2) then Tq 410 2 [vR 10 0, vR 31 x1, vI x2, vI x3, vI x4, vI x5, vI x6, vJ, vJ] [] M Q else Tq 410 3 [vR 10 0, vR 31 x1, vI x2, vI x3, vI x4, vI x5, vI x6, vJ, vJ] [vI 1] M Q) :=
  (show Bq 410 de_410 (List.drop 7 bk_410_1) [vR 10 0, vR 31 x1, vI x2, vI x3, vI x4, vI x5, vI x6, vJ, vJ] [vI s0] M Q ↔ (if ¬ s0 = (32 : Int) then Tq 410 9 [vR 10 0, vR 31 x1, vI x2, vI x3, vI x4, vI x5, vI x6, vJ, vJ] [] M Q else Bq 410 de_410 (List.drop 13 bk_410_1) [vR 10 0, vR 31 x1, vI x2, vI x3, vI x4, vI x5, vI x6, vJ, vJ] [vI x3, vI (w32 (x6 - x5))] M Q) from Iff.rfl).trans (by simp only [t410_1_c13])
theorem t410_1_c3 {x1 x2 x3 x4 x5 x6 s0 s1 : Int} {M : Mem} {Q : AR → Mem → Prop} : Bq 410 de_410 (List.drop 3 bk_410_1) [vR 10 0, vR 31 x1, vI x2, vI x3, vI x4, vI x5, vI x6, vJ, vJ] [vI s0, vI s1] M Q ↔ (if s0 ≤ s1 then Tq 410 10 [vJ, vJ, vJ, vJ, vJ, vJ, vJ, vJ, vJ] [] M Q else Tq 18 0 [vR 31 x1, vI x6] [] M (kI fun v1 M1 => if ¬ v1 = (32 : Int) then Tq 410 9 [vR 10 0, vR 31 x1, vI x2, vI x3, vI x4, vI x5, vI x6, vJ, vJ] [] M1 Q else if ¬ w32 (x6 - x5) = w32 (x3 - x2) then Tq 410 2 [vR 10 0, vR 31 x1, vI x2, vI x3, vI x4, vI x5, vI x6, vJ, vJ] [] M1 Q else Tq 410 3 [vR 10 0, vR 31 x1, vI x2, vI x3, vI x4, vI x5, vI x6, vJ, vJ] [vI 1] M1 Q)) :=
  (show Bq 410 de_410 (List.drop 3 bk_410_1) [vR 10 0, vR 31 x1, vI x2, vI x3, vI x4, vI x5, vI x6, vJ, vJ] [vI s0, vI s1] M Q ↔ (if s0 ≤ s1 then Tq 410 10 [vJ, vJ, vJ, vJ, vJ, vJ, vJ, vJ, vJ] [] M Q else Tq 18 0 [vR 31 x1, vI x6] [] M (kI fun v1 M1 => Bq 410 de_410 (List.drop 7 bk_410_1) [vR 10 0, vR 31 x1, vI x2, vI x3, vI x4, vI x5, vI x6, vJ, vJ] [vI v1] M1 Q)) from Iff.rfl).trans (by simp only [t410_1_c7])
theorem t410_1 {x1 x2 x3 x4 x5 x6 : Int} {M : Mem} {Q : AR → Mem → Prop} : Tq 410 1 [vR 10 0, vR 31 x1, vI x2, vI x3, vI x4, vI x5, vI x6, vJ, vJ] [] M Q ↔ (Tq 16 0 [vR 31 x1] [] M (kI fun v1 M1 => if v1 ≤ x6 then Tq 410 10 [vJ, vJ, vJ, vJ, vJ, vJ, vJ, vJ, vJ] [] M1 Q else Tq 18 0 [vR 31 x1, vI x6] [] M1 (kI fun v2 M2 => if ¬ v2 = (32 : Int) then Tq 410 9 [vR 10 0, vR 31 x1, vI x2, vI x3, vI x4, vI x5, vI x6, vJ, vJ] [] M2 Q else if ¬ w32 (x6 - x5) = w32 (x3 - x2) then Tq 410 2 [vR 10 0, vR 31 x1, vI x2, vI x3, vI x4, vI x5, vI x6, vJ, vJ] [] M2 Q else Tq 410 3 [vR 10 0, vR 31 x1, vI x2, vI x3, vI x4, vI x5, vI x6, vJ, vJ] [vI 1] M2 Q))) :=
  (show Tq 410 1 [vR 10 0, vR 31 x1, vI x2, vI x3, vI x4, vI x5, vI x6, vJ, vJ] [] M Q ↔ (Tq 16 0 [vR 31 x1] [] M (kI fun v1 M1 => Bq 410 de_410 (List.drop 3 bk_410_1) [vR 10 0, vR 31 x1, vI x2, vI x3, vI x4, vI x5, vI x6, vJ, vJ] [vI v1, vI x6] M1 Q)) from Tq_blk (is := bk_410_1) (dd := de_410) rfl rfl).trans (by simp only [t410_1_c3])
/-- EarthOffice$Reader which block at 44 -/
theorem t410_2 {x1 x2 x3 x4 x5 x6 : Int} {M : Mem} {Q : AR → Mem → Prop} : Tq 410 2 [vR 10 0, vR 31 x1, vI x2, vI x3, vI x4, vI x5, vI x6, vJ, vJ] [] M Q ↔ (Tq 410 3 [vR 10 0, vR 31 x1, vI x2, vI x3, vI x4, vI x5, vI x6, vJ, vJ] [vI 0] M Q) :=
  Tq_blk (is := bk_410_2) (dd := de_410) rfl rfl
/-- EarthOffice$Reader which block at 45 -/
theorem t410_3 {x1 x2 x3 x4 x5 x6 s0 : Int} {M : Mem} {Q : AR → Mem → Prop} : Tq 410 3 [vR 10 0, vR 31 x1, vI x2, vI x3, vI x4, vI x5, vI x6, vJ, vJ] [vI s0] M Q ↔ (Tq 410 4 [vR 10 0, vR 31 x1, vI x2, vI x3, vI x4, vI x5, vI x6, vI s0, vI x5] [] M Q) :=
  Tq_blk (is := bk_410_3) (dd := de_410) rfl rfl
/-- EarthOffice$Reader which block at 51 -/
theorem t410_4_c16 {x1 x2 x3 x4 x5 x6 x7 x8 s0 s1 : Int} {M : Mem} {Q : AR → Mem → Prop} : Bq 410 de_410 (List.drop 16 bk_410_4) [vR 10 0, vR 31 x1, vI x2, vI x3, vI x4, vI x5, vI x6, vI x7, vI x8] [vI s0, vI s1] M Q ↔ (if ¬ s1 = s0 then Tq 410 5 [vR 10 0, vR 31 x1, vI x2, vI x3, vI x4, vI x5, vI x6, vJ, vI x8] [] M Q else Tq 410 6 [vR 10 0, vR 31 x1, vI x2, vI x3, vI x4, vI x5, vI x6, vJ, vI x8] [vI 1] M Q) :=
  Iff.rfl
theorem t410_4_c12 {x1 x2 x3 x4 x5 x6 x7 x8 s0 s1 : Int} {M : Mem} {Q : AR → Mem → Prop} : Bq 410 de_410 (List.drop 12 bk_410_4) [vR 10 0, vR 31 x1, vI x2, vI x3, vI x4, vI x5, vI x6, vI x7, vI x8] [vI s0, vR 13 s1] M Q ↔ (Tq 114 0 [vR 13 s1, vI s0] [] M (kI fun v1 M1 => Tq 18 0 [vR 31 x1, vI x8] [] M1 (kI fun v2 M2 => if ¬ v1 = v2 then Tq 410 5 [vR 10 0, vR 31 x1, vI x2, vI x3, vI x4, vI x5, vI x6, vJ, vI x8] [] M2 Q else Tq 410 6 [vR 10 0, vR 31 x1, vI x2, vI x3, vI x4, vI x5, vI x6, vJ, vI x8] [vI 1] M2 Q))) :=
  (show Bq 410 de_410 (List.drop 12 bk_410_4) [vR 10 0, vR 31 x1, vI x2, vI x3, vI x4, vI x5, vI x6, vI x7, vI x8] [vI s0, vR 13 s1] M Q ↔ (Tq 114 0 [vR 13 s1, vI s0] [] M (kI fun v1 M1 => Tq 18 0 [vR 31 x1, vI x8] [] M1 (kI fun v2 M2 => Bq 410 de_410 (List.drop 16 bk_410_4) [vR 10 0, vR 31 x1, vI x2, vI x3, vI x4, vI x5, vI x6, vI x7, vI x8] [vI v2, vI v1] M2 Q))) from Iff.rfl).trans (by simp only [t410_4_c16])
theorem t410_4_c6 {x1 x2 x3 x4 x5 x6 x7 x8 : Int} {M : Mem} {Q : AR → Mem → Prop} : Bq 410 de_410 (List.drop 6 bk_410_4) [vR 10 0, vR 31 x1, vI x2, vI x3, vI x4, vI x5, vI x6, vI x7, vI x8] [vR 10 0] M Q ↔ ((0 ≤ M 10 0 2) ∧ Tq 114 0 [vR 13 (M 10 0 2), vI (w32 (w32 (x2 + x8) - x5))] [] M (kI fun v1 M1 => Tq 18 0 [vR 31 x1, vI x8] [] M1 (kI fun v2 M2 => if ¬ v1 = v2 then Tq 410 5 [vR 10 0, vR 31 x1, vI x2, vI x3, vI x4, vI x5, vI x6, vJ, vI x8] [] M2 Q else Tq 410 6 [vR 10 0, vR 31 x1, vI x2, vI x3, vI x4, vI x5, vI x6, vJ, vI x8] [vI 1] M2 Q))) :=
  (show Bq 410 de_410 (List.drop 6 bk_410_4) [vR 10 0, vR 31 x1, vI x2, vI x3, vI x4, vI x5, vI x6, vI x7, vI x8] [vR 10 0] M Q ↔ ((0 ≤ M 10 0 2) ∧ Bq 410 de_410 (List.drop 12 bk_410_4) [vR 10 0, vR 31 x1, vI x2, vI x3, vI x4, vI x5, vI x6, vI x7, vI x8] [vI (w32 (w32 (x2 + x8) - x5)), vR 13 (M 10 0 2)] M Q) from Iff.rfl).trans (by simp only [t410_4_c12])
theorem t410_4 {x1 x2 x3 x4 x5 x6 x7 x8 : Int} {M : Mem} {Q : AR → Mem → Prop} : Tq 410 4 [vR 10 0, vR 31 x1, vI x2, vI x3, vI x4, vI x5, vI x6, vI x7, vI x8] [] M Q ↔ (if x6 ≤ x8 then Tq 410 7 [vR 10 0, vR 31 x1, vI x2, vI x3, vI x4, vJ, vI x6, vI x7, vJ] [] M Q else if x7 = 0 then Tq 410 7 [vR 10 0, vR 31 x1, vI x2, vI x3, vI x4, vJ, vI x6, vI x7, vJ] [] M Q else (0 ≤ M 10 0 2) ∧ Tq 114 0 [vR 13 (M 10 0 2), vI (w32 (w32 (x2 + x8) - x5))] [] M (kI fun v1 M1 => Tq 18 0 [vR 31 x1, vI x8] [] M1 (kI fun v2 M2 => if ¬ v1 = v2 then Tq 410 5 [vR 10 0, vR 31 x1, vI x2, vI x3, vI x4, vI x5, vI x6, vJ, vI x8] [] M2 Q else Tq 410 6 [vR 10 0, vR 31 x1, vI x2, vI x3, vI x4, vI x5, vI x6, vJ, vI x8] [vI 1] M2 Q))) :=
  (show Tq 410 4 [vR 10 0, vR 31 x1, vI x2, vI x3, vI x4, vI x5, vI x6, vI x7, vI x8] [] M Q ↔ (if x6 ≤ x8 then Tq 410 7 [vR 10 0, vR 31 x1, vI x2, vI x3, vI x4, vJ, vI x6, vI x7, vJ] [] M Q else if x7 = 0 then Tq 410 7 [vR 10 0, vR 31 x1, vI x2, vI x3, vI x4, vJ, vI x6, vI x7, vJ] [] M Q else Bq 410 de_410 (List.drop 6 bk_410_4) [vR 10 0, vR 31 x1, vI x2, vI x3, vI x4, vI x5, vI x6, vI x7, vI x8] [vR 10 0] M Q) from Tq_blk (is := bk_410_4) (dd := de_410) rfl rfl).trans (by simp only [t410_4_c6])
/-- EarthOffice$Reader which block at 90 -/
theorem t410_5 {x1 x2 x3 x4 x5 x6 x8 : Int} {M : Mem} {Q : AR → Mem → Prop} : Tq 410 5 [vR 10 0, vR 31 x1, vI x2, vI x3, vI x4, vI x5, vI x6, vJ, vI x8] [] M Q ↔ (Tq 410 6 [vR 10 0, vR 31 x1, vI x2, vI x3, vI x4, vI x5, vI x6, vJ, vI x8] [vI 0] M Q) :=
  Tq_blk (is := bk_410_5) (dd := de_410) rfl rfl
/-- EarthOffice$Reader which block at 91 -/
theorem t410_6 {x1 x2 x3 x4 x5 x6 x8 s0 : Int} {M : Mem} {Q : AR → Mem → Prop} : Tq 410 6 [vR 10 0, vR 31 x1, vI x2, vI x3, vI x4, vI x5, vI x6, vJ, vI x8] [vI s0] M Q ↔ (Tq 410 4 [vR 10 0, vR 31 x1, vI x2, vI x3, vI x4, vI x5, vI x6, vI s0, vI (w32 (x8 + 1))] [] M Q) :=
  Tq_blk (is := bk_410_6) (dd := de_410) rfl rfl
/-- EarthOffice$Reader which block at 99 -/
theorem t410_7 {x1 x2 x3 x4 x6 x7 : Int} {M : Mem} {Q : AR → Mem → Prop} : Tq 410 7 [vR 10 0, vR 31 x1, vI x2, vI x3, vI x4, vJ, vI x6, vI x7, vJ] [] M Q ↔ (if x7 = 0 then Tq 410 8 [vR 10 0, vR 31 x1, vI x2, vI x3, vI x4, vJ, vI x6, vJ, vJ] [] M Q else Q (.inl (some (vI x4))) M) :=
  Tq_blk (is := bk_410_7) (dd := de_410) rfl rfl
/-- EarthOffice$Reader which block at 107 -/
theorem t410_8 {x1 x2 x3 x4 x6 : Int} {M : Mem} {Q : AR → Mem → Prop} : Tq 410 8 [vR 10 0, vR 31 x1, vI x2, vI x3, vI x4, vJ, vI x6, vJ, vJ] [] M Q ↔ (Tq 410 9 [vR 10 0, vR 31 x1, vI x2, vI x3, vI (w32 (x4 + 1)), vI (w32 (x6 + 1)), vI x6, vJ, vJ] [] M Q) :=
  Tq_blk (is := bk_410_8) (dd := de_410) rfl rfl
/-- EarthOffice$Reader which block at 116 -/
theorem t410_9 {x1 x2 x3 x4 x5 x6 : Int} {M : Mem} {Q : AR → Mem → Prop} : Tq 410 9 [vR 10 0, vR 31 x1, vI x2, vI x3, vI x4, vI x5, vI x6, vJ, vJ] [] M Q ↔ (Tq 410 1 [vR 10 0, vR 31 x1, vI x2, vI x3, vI x4, vI x5, vI (w32 (x6 + 1)), vJ, vJ] [] M Q) :=
  Tq_blk (is := bk_410_9) (dd := de_410) rfl rfl
/-- EarthOffice$Reader which block at 122 -/
theorem t410_10 {M : Mem} {Q : AR → Mem → Prop} : Tq 410 10 [vJ, vJ, vJ, vJ, vJ, vJ, vJ, vJ, vJ] [] M Q ↔ (Q (.inl (some (vI (-99999999)))) M) :=
  Tq_blk (is := bk_410_10) (dd := de_410) rfl rfl
/-- EarthOffice$Reader say block at 0 -/
theorem t411_0 {x1 : Int} {M : Mem} {Q : AR → Mem → Prop} : Tq 411 0 [vR 10 0, vI x1, vJ, vJ] [] M Q ↔ ((0 ≤ M 10 0 2) ∧ Tq 114 0 [vR 13 (M 10 0 2), vI x1] [] M (kI fun v1 M1 => if v1 = (32 : Int) then Tq 411 1 [vR 10 0, vI x1, vJ, vJ] [] M1 Q else Tq 107 0 [vR 11 0, vI x1] [] M1 (kR 11 fun v2 M2 => Q (.inr v2) M2))) :=
  Tq_blk (is := bk_411_0) (dd := de_411) rfl rfl
/-- EarthOffice$Reader say block at 22 -/
theorem t411_1 {x1 : Int} {M : Mem} {Q : AR → Mem → Prop} : Tq 411 1 [vR 10 0, vI x1, vJ, vJ] [] M Q ↔ ((0 ≤ M 10 0 2) ∧ if ¬ w32 (x1 + 1) = M 13 (M 10 0 2) 1 then Tq 411 2 [vR 10 0, vJ, vI (w32 (x1 + 1)), vJ] [] M Q else Tq 107 0 [vR 11 0, vI (w32 (x1 + 1))] [] M (kR 11 fun v1 M1 => Q (.inr v1) M1)) :=
  Tq_blk (is := bk_411_1) (dd := de_411) rfl rfl
/-- EarthOffice$Reader say block at 46 -/
theorem t411_2 {x2 : Int} {M : Mem} {Q : AR → Mem → Prop} : Tq 411 2 [vR 10 0, vJ, vI x2, vJ] [] M Q ↔ ((0 ≤ M 10 0 2) ∧ if M 13 (M 10 0 2) 1 ≤ x2 then Tq 411 5 [vJ, vJ, vJ, vJ] [] M Q else (0 ≤ M 10 0 2) ∧ Tq 114 0 [vR 13 (M 10 0 2), vI x2] [] M (kI fun v1 M1 => if M1 13 (7 + 8) 1 = (80 : Int) then Tq 411 3 [vR 10 0, vJ, vI x2, vJ] [] M1 Q else if v1 < (32 : Int) then Tq 411 3 [vR 10 0, vJ, vI x2, vJ] [] M1 Q else if (126 : Int) < v1 then Tq 411 3 [vR 10 0, vJ, vI x2, vJ] [] M1 Q else if ¬ v1 = (123 : Int) then Tq 411 4 [vR 10 0, vJ, vI x2, vI v1] [] M1 Q else Tq 412 0 [vR 10 0, vI x2, vJ] [] M1 (kI fun v2 M2 => if ¬ v2 = (-99999999) then Tq 411 4 [vR 10 0, vJ, vI x2, vI v1] [] M2 Q else Tq 411 3 [vR 10 0, vJ, vI x2, vJ] [] M2 Q))) :=
  Tq_blk (is := bk_411_2) (dd := de_411) rfl rfl
/-- EarthOffice$Reader say block at 109 -/
theorem t411_3 {x2 : Int} {M : Mem} {Q : AR → Mem → Prop} : Tq 411 3 [vR 10 0, vJ, vI x2, vJ] [] M Q ↔ (Tq 107 0 [vR 11 0, vI x2] [] M (kR 11 fun v1 M1 => Q (.inr v1) M1)) :=
  Tq_blk (is := bk_411_3) (dd := de_411) rfl rfl
/-- EarthOffice$Reader say block at 118 -/
theorem t411_4 {x2 x3 : Int} {M : Mem} {Q : AR → Mem → Prop} : Tq 411 4 [vR 10 0, vJ, vI x2, vI x3] [] M Q ↔ (Tq 113 0 [vR 13 (7 + 8), vI x3] [] M (kV fun M1 => Tq 411 2 [vR 10 0, vJ, vI (w32 (x2 + 1)), vJ] [] M1 Q)) :=
  Tq_blk (is := bk_411_4) (dd := de_411) rfl rfl
/-- EarthOffice$Reader say block at 135 -/
theorem t411_5 {M : Mem} {Q : AR → Mem → Prop} : Tq 411 5 [vJ, vJ, vJ, vJ] [] M Q ↔ (Q (.inl none) M) :=
  Tq_blk (is := bk_411_5) (dd := de_411) rfl rfl
/-- EarthOffice$Reader placeAt block at 0 -/
theorem t412_0 {x1 : Int} {M : Mem} {Q : AR → Mem → Prop} : Tq 412 0 [vR 10 0, vI x1, vJ] [] M Q ↔ (Tq 412 1 [vR 10 0, vI x1, vI (w32 (x1 + 1))] [] M Q) :=
  Tq_blk (is := bk_412_0) (dd := de_412) rfl rfl
/-- EarthOffice$Reader placeAt block at 4 -/
theorem t412_1 {x1 x2 : Int} {M : Mem} {Q : AR → Mem → Prop} : Tq 412 1 [vR 10 0, vI x1, vI x2] [] M Q ↔ ((0 ≤ M 10 0 2) ∧ Tq 114 0 [vR 13 (M 10 0 2), vI x2] [] M (kI fun v1 M1 => Tq 397 0 [vI v1] [] M1 (kI fun v2 M2 => if v2 = 0 then Tq 412 2 [vR 10 0, vI x1, vI x2] [] M2 Q else Tq 412 1 [vR 10 0, vI x1, vI (w32 (x2 + 1))] [] M2 Q))) :=
  Tq_blk (is := bk_412_1) (dd := de_412) rfl rfl
/-- EarthOffice$Reader placeAt block at 24 -/
theorem t412_2 {x1 x2 : Int} {M : Mem} {Q : AR → Mem → Prop} : Tq 412 2 [vR 10 0, vI x1, vI x2] [] M Q ↔ ((0 ≤ M 10 0 2) ∧ Tq 114 0 [vR 13 (M 10 0 2), vI x2] [] M (kI fun v1 M1 => if ¬ v1 = (125 : Int) then Tq 412 3 [vJ, vJ, vJ] [] M1 Q else Tq 410 0 [vR 10 0, vR 31 46, vI (w32 (x1 + 1)), vI x2, vJ, vJ, vJ, vJ, vJ] [] M1 (kI fun v2 M2 => Tq 412 4 [vJ, vJ, vJ] [vI v2] M2 Q))) :=
  Tq_blk (is := bk_412_2) (dd := de_412) rfl rfl
/-- EarthOffice$Reader placeAt block at 50 -/
theorem t412_3 {M : Mem} {Q : AR → Mem → Prop} : Tq 412 3 [vJ, vJ, vJ] [] M Q ↔ (Tq 412 4 [vJ, vJ, vJ] [vI (-99999999)] M Q) :=
  Tq_blk (is := bk_412_3) (dd := de_412) rfl rfl
/-- EarthOffice$Reader placeAt block at 52 -/
theorem t412_4 {s0 : Int} {M : Mem} {Q : AR → Mem → Prop} : Tq 412 4 [vJ, vJ, vJ] [vI s0] M Q ↔ (Q (.inl (some (vI s0))) M) :=
  Tq_blk (is := bk_412_4) (dd := de_412) rfl rfl
/-- EarthOffice$Reader name block at 0 -/
theorem t413_0 {x1 x2 x3 : Int} {M : Mem} {Q : AR → Mem → Prop} : Tq 413 0 [vR 10 0, vR 13 x1, vI x2, vI x3] [] M Q ↔ (bd (mset M 10 0 2 x1) fun M1 => Tq 410 0 [vR 10 0, vR 31 46, vI x2, vI x3, vJ, vJ, vJ, vJ, vJ] [] M1 (kI fun v1 M2 => Q (.inl (some (vI v1))) M2)) :=
  Tq_blk (is := bk_413_0) (dd := de_413) rfl rfl
