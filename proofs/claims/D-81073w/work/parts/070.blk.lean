/-! BLOCKS (printed by gen/lem.py) -/
set_option maxRecDepth 100000
/-- EarthOfficeLaw law block at 18 -/
theorem t0_1 {x3 : Int} {M : Mem} {Q : AR → Mem → Prop} : Tq 0 1 [vR 32000 0, vR 1 0, vR 22 0, vI x3] [] M Q ↔ (if w32 (M 32 0 0 - 8) < x3 then Tq 0 79 [vJ, vJ, vJ, vJ] [] M Q else ((0 : Int) ≤ x3 ∧ x3 < M 32 0 0) ∧ if and32 (M 32000 0 x3) 63 = 0 then Tq 0 2 [vR 32000 0, vR 1 0, vR 22 0, vI x3] [] M Q else if and32 (M 32000 0 x3) 63 = 1 then Tq 0 3 [vR 32000 0, vR 1 0, vR 22 0, vI x3] [] M Q else if and32 (M 32000 0 x3) 63 = 2 then Tq 0 4 [vR 32000 0, vR 1 0, vR 22 0, vI x3] [] M Q else if and32 (M 32000 0 x3) 63 = 3 then Tq 0 5 [vR 32000 0, vR 1 0, vR 22 0, vI x3] [] M Q else if and32 (M 32000 0 x3) 63 = 4 then Tq 0 6 [vR 32000 0, vR 1 0, vR 22 0, vI x3] [] M Q else if and32 (M 32000 0 x3) 63 = 5 then Tq 0 7 [vR 32000 0, vR 1 0, vR 22 0, vI x3] [] M Q else if and32 (M 32000 0 x3) 63 = 6 then Tq 0 8 [vR 32000 0, vR 1 0, vR 22 0, vI x3] [] M Q else if and32 (M 32000 0 x3) 63 = 7 then Tq 0 9 [vR 32000 0, vR 1 0, vR 22 0, vI x3] [] M Q else if and32 (M 32000 0 x3) 63 = 8 then Tq 0 10 [vR 32000 0, vR 1 0, vR 22 0, vI x3] [] M Q else if and32 (M 32000 0 x3) 63 = 9 then Tq 0 11 [vR 32000 0, vR 1 0, vR 22 0, vI x3] [] M Q else if and32 (M 32000 0 x3) 63 = 10 then Tq 0 12 [vR 32000 0, vR 1 0, vR 22 0, vI x3] [] M Q else if and32 (M 32000 0 x3) 63 = 11 then Tq 0 13 [vR 32000 0, vR 1 0, vR 22 0, vI x3] [] M Q else if and32 (M 32000 0 x3) 63 = 12 then Tq 0 14 [vR 32000 0, vR 1 0, vR 22 0, vI x3] [] M Q else if and32 (M 32000 0 x3) 63 = 13 then Tq 0 15 [vR 32000 0, vR 1 0, vR 22 0, vI x3] [] M Q else if and32 (M 32000 0 x3) 63 = 14 then Tq 0 16 [vR 32000 0, vR 1 0, vR 22 0, vI x3] [] M Q else if and32 (M 32000 0 x3) 63 = 15 then Tq 0 17 [vR 32000 0, vR 1 0, vR 22 0, vI x3] [] M Q else if and32 (M 32000 0 x3) 63 = 16 then Tq 0 18 [vR 32000 0, vR 1 0, vR 22 0, vI x3] [] M Q else if and32 (M 32000 0 x3) 63 = 17 then Tq 0 19 [vR 32000 0, vR 1 0, vR 22 0, vI x3] [] M Q else if and32 (M 32000 0 x3) 63 = 18 then Tq 0 20 [vR 32000 0, vR 1 0, vR 22 0, vI x3] [] M Q else if and32 (M 32000 0 x3) 63 = 19 then Tq 0 21 [vR 32000 0, vR 1 0, vR 22 0, vI x3] [] M Q else if and32 (M 32000 0 x3) 63 = 20 then Tq 0 22 [vR 32000 0, vR 1 0, vR 22 0, vI x3] [] M Q else if and32 (M 32000 0 x3) 63 = 21 then Tq 0 23 [vR 32000 0, vR 1 0, vR 22 0, vI x3] [] M Q else if and32 (M 32000 0 x3) 63 = 22 then Tq 0 24 [vR 32000 0, vR 1 0, vR 22 0, vI x3] [] M Q else if and32 (M 32000 0 x3) 63 = 23 then Tq 0 25 [vR 32000 0, vR 1 0, vR 22 0, vI x3] [] M Q else if and32 (M 32000 0 x3) 63 = 24 then Tq 0 26 [vR 32000 0, vR 1 0, vR 22 0, vI x3] [] M Q else if and32 (M 32000 0 x3) 63 = 25 then Tq 0 27 [vR 32000 0, vR 1 0, vR 22 0, vI x3] [] M Q else if and32 (M 32000 0 x3) 63 = 26 then Tq 0 28 [vR 32000 0, vR 1 0, vR 22 0, vI x3] [] M Q else if and32 (M 32000 0 x3) 63 = 27 then Tq 0 29 [vR 32000 0, vR 1 0, vR 22 0, vI x3] [] M Q else if and32 (M 32000 0 x3) 63 = 28 then Tq 0 30 [vR 32000 0, vR 1 0, vR 22 0, vI x3] [] M Q else if and32 (M 32000 0 x3) 63 = 29 then Tq 0 31 [vR 32000 0, vR 1 0, vR 22 0, vI x3] [] M Q else if and32 (M 32000 0 x3) 63 = 30 then Tq 0 32 [vR 32000 0, vR 1 0, vR 22 0, vI x3] [] M Q else if and32 (M 32000 0 x3) 63 = 31 then Tq 0 33 [vR 32000 0, vR 1 0, vR 22 0, vI x3] [] M Q else if and32 (M 32000 0 x3) 63 = 32 then Tq 0 34 [vR 32000 0, vR 1 0, vR 22 0, vI x3] [] M Q else if and32 (M 32000 0 x3) 63 = 33 then Tq 0 35 [vR 32000 0, vR 1 0, vR 22 0, vI x3] [] M Q else if and32 (M 32000 0 x3) 63 = 34 then Tq 0 36 [vR 32000 0, vR 1 0, vR 22 0, vI x3] [] M Q else if and32 (M 32000 0 x3) 63 = 35 then Tq 0 37 [vR 32000 0, vR 1 0, vR 22 0, vI x3] [] M Q else if and32 (M 32000 0 x3) 63 = 36 then Tq 0 38 [vR 32000 0, vR 1 0, vR 22 0, vI x3] [] M Q else if and32 (M 32000 0 x3) 63 = 37 then Tq 0 39 [vR 32000 0, vR 1 0, vR 22 0, vI x3] [] M Q else if and32 (M 32000 0 x3) 63 = 38 then Tq 0 40 [vR 32000 0, vR 1 0, vR 22 0, vI x3] [] M Q else if and32 (M 32000 0 x3) 63 = 39 then Tq 0 41 [vR 32000 0, vR 1 0, vR 22 0, vI x3] [] M Q else if and32 (M 32000 0 x3) 63 = 40 then Tq 0 46 [vR 32000 0, vR 1 0, vR 22 0, vI x3] [] M Q else if and32 (M 32000 0 x3) 63 = 41 then Tq 0 47 [vR 32000 0, vR 1 0, vR 22 0, vI x3] [] M Q else if and32 (M 32000 0 x3) 63 = 42 then Tq 0 48 [vR 32000 0, vR 1 0, vR 22 0, vI x3] [] M Q else if and32 (M 32000 0 x3) 63 = 43 then Tq 0 49 [vR 32000 0, vR 1 0, vR 22 0, vI x3] [] M Q else if and32 (M 32000 0 x3) 63 = 44 then Tq 0 50 [vR 32000 0, vR 1 0, vR 22 0, vI x3] [] M Q else if and32 (M 32000 0 x3) 63 = 45 then Tq 0 51 [vR 32000 0, vR 1 0, vR 22 0, vI x3] [] M Q else if and32 (M 32000 0 x3) 63 = 46 then Tq 0 52 [vR 32000 0, vR 1 0, vR 22 0, vI x3] [] M Q else if and32 (M 32000 0 x3) 63 = 47 then Tq 0 53 [vR 32000 0, vR 1 0, vR 22 0, vI x3] [] M Q else if and32 (M 32000 0 x3) 63 = 48 then Tq 0 54 [vR 32000 0, vR 1 0, vR 22 0, vI x3] [] M Q else if and32 (M 32000 0 x3) 63 = 49 then Tq 0 55 [vR 32000 0, vR 1 0, vR 22 0, vI x3] [] M Q else if and32 (M 32000 0 x3) 63 = 50 then Tq 0 60 [vR 32000 0, vR 1 0, vR 22 0, vI x3] [] M Q else if and32 (M 32000 0 x3) 63 = 51 then Tq 0 65 [vR 32000 0, vR 1 0, vR 22 0, vI x3] [] M Q else if and32 (M 32000 0 x3) 63 = 52 then Tq 0 70 [vR 32000 0, vR 1 0, vR 22 0, vI x3] [] M Q else if and32 (M 32000 0 x3) 63 = 53 then Tq 0 71 [vR 32000 0, vR 1 0, vR 22 0, vI x3] [] M Q else if and32 (M 32000 0 x3) 63 = 54 then Tq 0 72 [vR 32000 0, vR 1 0, vR 22 0, vI x3] [] M Q else if and32 (M 32000 0 x3) 63 = 55 then Tq 0 73 [vR 32000 0, vR 1 0, vR 22 0, vI x3] [] M Q else if and32 (M 32000 0 x3) 63 = 56 then Tq 0 74 [vR 32000 0, vR 1 0, vR 22 0, vI x3] [] M Q else if and32 (M 32000 0 x3) 63 = 57 then Tq 0 75 [vR 32000 0, vR 1 0, vR 22 0, vI x3] [] M Q else if and32 (M 32000 0 x3) 63 = 58 then Tq 0 76 [vR 32000 0, vR 1 0, vR 22 0, vI x3] [] M Q else if and32 (M 32000 0 x3) 63 = 59 then Tq 0 77 [vR 32000 0, vR 1 0, vR 22 0, vI x3] [] M Q else Tq 0 78 [vR 32000 0, vR 1 0, vR 22 0, vI x3] [] M Q) :=
  Tq_blk (is := bk_0_1) (dd := de_0) rfl rfl
/-- EarthOfficeLaw law block at 288 -/
theorem t0_2 {x3 : Int} {M : Mem} {Q : AR → Mem → Prop} : Tq 0 2 [vR 32000 0, vR 1 0, vR 22 0, vI x3] [] M Q ↔ (((0 : Int) ≤ w32 (x3 + 1) ∧ w32 (x3 + 1) < M 32 0 0) ∧ ((0 : Int) ≤ w32 (x3 + 2) ∧ w32 (x3 + 2) < M 32 0 0) ∧ ((0 : Int) ≤ w32 (x3 + 3) ∧ w32 (x3 + 3) < M 32 0 0) ∧ ((0 : Int) ≤ w32 (x3 + 4) ∧ w32 (x3 + 4) < M 32 0 0) ∧ ((0 : Int) ≤ w32 (x3 + 5) ∧ w32 (x3 + 5) < M 32 0 0) ∧ Tq 23 0 [vR 1 0, vI (M 32000 0 (w32 (x3 + 1))), vI (M 32000 0 (w32 (x3 + 2))), vI (M 32000 0 (w32 (x3 + 3))), vI (M 32000 0 (w32 (x3 + 4))), vI (M 32000 0 (w32 (x3 + 5)))] [] M (kI fun v1 M1 => ((0 : Int) ≤ w32 (x3 + 1) ∧ w32 (x3 + 1) < M1 32 0 0) ∧ ((0 : Int) ≤ w32 (x3 + 2) ∧ w32 (x3 + 2) < M1 32 0 0) ∧ ((0 : Int) ≤ w32 (x3 + 3) ∧ w32 (x3 + 3) < M1 32 0 0) ∧ ((0 : Int) ≤ w32 (x3 + 4) ∧ w32 (x3 + 4) < M1 32 0 0) ∧ ((0 : Int) ≤ w32 (x3 + 5) ∧ w32 (x3 + 5) < M1 32 0 0) ∧ Tq 184 0 [vR 22 0, vI (M1 32000 0 (w32 (x3 + 1))), vI (M1 32000 0 (w32 (x3 + 2))), vI (M1 32000 0 (w32 (x3 + 3))), vI (M1 32000 0 (w32 (x3 + 4))), vI (M1 32000 0 (w32 (x3 + 5)))] [] M1 (kI fun v2 M2 => if v1 = v2 then Tq 0 78 [vR 32000 0, vR 1 0, vR 22 0, vI x3] [] M2 Q else Q (.inl (some (vI (nb 0)))) M2))) :=
  Tq_blk (is := bk_0_2) (dd := de_0) rfl rfl
/-- EarthOfficeLaw law block at 351 -/
theorem t0_3 {x3 : Int} {M : Mem} {Q : AR → Mem → Prop} : Tq 0 3 [vR 32000 0, vR 1 0, vR 22 0, vI x3] [] M Q ↔ (((0 : Int) ≤ w32 (x3 + 1) ∧ w32 (x3 + 1) < M 32 0 0) ∧ Tq 24 0 [vR 1 0, vI (M 32000 0 (w32 (x3 + 1))), vJ] [] M (kI fun v1 M1 => ((0 : Int) ≤ w32 (x3 + 1) ∧ w32 (x3 + 1) < M1 32 0 0) ∧ Tq 187 0 [vR 22 0, vI (M1 32000 0 (w32 (x3 + 1))), vJ] [] M1 (kI fun v2 M2 => if v1 = v2 then Tq 0 78 [vR 32000 0, vR 1 0, vR 22 0, vI x3] [] M2 Q else Q (.inl (some (vI (nb 0)))) M2))) :=
  Tq_blk (is := bk_0_3) (dd := de_0) rfl rfl
/-- EarthOfficeLaw law block at 374 -/
theorem t0_4 {x3 : Int} {M : Mem} {Q : AR → Mem → Prop} : Tq 0 4 [vR 32000 0, vR 1 0, vR 22 0, vI x3] [] M Q ↔ (((0 : Int) ≤ w32 (x3 + 1) ∧ w32 (x3 + 1) < M 32 0 0) ∧ Tq 26 0 [vR 1 0, vI (M 32000 0 (w32 (x3 + 1)))] [] M (kI fun v1 M1 => ((0 : Int) ≤ w32 (x3 + 1) ∧ w32 (x3 + 1) < M1 32 0 0) ∧ Tq 188 0 [vR 22 0, vI (M1 32000 0 (w32 (x3 + 1)))] [] M1 (kI fun v2 M2 => if v1 = v2 then Tq 0 78 [vR 32000 0, vR 1 0, vR 22 0, vI x3] [] M2 Q else Q (.inl (some (vI (nb 0)))) M2))) :=
  Tq_blk (is := bk_0_4) (dd := de_0) rfl rfl
/-- EarthOfficeLaw law block at 397 -/
theorem t0_5 {x3 : Int} {M : Mem} {Q : AR → Mem → Prop} : Tq 0 5 [vR 32000 0, vR 1 0, vR 22 0, vI x3] [] M Q ↔ (((0 : Int) ≤ w32 (x3 + 1) ∧ w32 (x3 + 1) < M 32 0 0) ∧ ((0 : Int) ≤ w32 (x3 + 2) ∧ w32 (x3 + 2) < M 32 0 0) ∧ Tq 27 0 [vR 1 0, vI (M 32000 0 (w32 (x3 + 1))), vI (M 32000 0 (w32 (x3 + 2)))] [] M (kI fun v1 M1 => ((0 : Int) ≤ w32 (x3 + 1) ∧ w32 (x3 + 1) < M1 32 0 0) ∧ ((0 : Int) ≤ w32 (x3 + 2) ∧ w32 (x3 + 2) < M1 32 0 0) ∧ Tq 196 0 [vR 22 0, vI (M1 32000 0 (w32 (x3 + 1))), vI (M1 32000 0 (w32 (x3 + 2)))] [] M1 (kI fun v2 M2 => if v1 = v2 then Tq 0 78 [vR 32000 0, vR 1 0, vR 22 0, vI x3] [] M2 Q else Q (.inl (some (vI (nb 0)))) M2))) :=
  Tq_blk (is := bk_0_5) (dd := de_0) rfl rfl
/-- EarthOfficeLaw law block at 430 -/
theorem t0_6 {x3 : Int} {M : Mem} {Q : AR → Mem → Prop} : Tq 0 6 [vR 32000 0, vR 1 0, vR 22 0, vI x3] [] M Q ↔ (((0 : Int) ≤ w32 (x3 + 1) ∧ w32 (x3 + 1) < M 32 0 0) ∧ Tq 29 0 [vR 1 0, vI (M 32000 0 (w32 (x3 + 1))), vJ, vJ, vJ, vJ, vJ, vJ, vJ, vJ] [] M (kI fun v1 M1 => ((0 : Int) ≤ w32 (x3 + 1) ∧ w32 (x3 + 1) < M1 32 0 0) ∧ Tq 275 0 [vR 22 0, vI (M1 32000 0 (w32 (x3 + 1))), vJ, vJ, vJ, vJ, vJ, vJ, vJ] [] M1 (kI fun v2 M2 => if v1 = v2 then Tq 0 78 [vR 32000 0, vR 1 0, vR 22 0, vI x3] [] M2 Q else Q (.inl (some (vI (nb 0)))) M2))) :=
  Tq_blk (is := bk_0_6) (dd := de_0) rfl rfl
/-- EarthOfficeLaw law block at 453 -/
theorem t0_7 {x3 : Int} {M : Mem} {Q : AR → Mem → Prop} : Tq 0 7 [vR 32000 0, vR 1 0, vR 22 0, vI x3] [] M Q ↔ (((0 : Int) ≤ w32 (x3 + 1) ∧ w32 (x3 + 1) < M 32 0 0) ∧ ((0 : Int) ≤ w32 (x3 + 2) ∧ w32 (x3 + 2) < M 32 0 0) ∧ Tq 32 0 [vR 1 0, vI (M 32000 0 (w32 (x3 + 1))), vI (M 32000 0 (w32 (x3 + 2)))] [] M (kI fun v1 M1 => ((0 : Int) ≤ w32 (x3 + 1) ∧ w32 (x3 + 1) < M1 32 0 0) ∧ ((0 : Int) ≤ w32 (x3 + 2) ∧ w32 (x3 + 2) < M1 32 0 0) ∧ Tq 274 0 [vR 22 0, vI (M1 32000 0 (w32 (x3 + 1))), vI (M1 32000 0 (w32 (x3 + 2)))] [] M1 (kI fun v2 M2 => if v1 = v2 then Tq 0 78 [vR 32000 0, vR 1 0, vR 22 0, vI x3] [] M2 Q else Q (.inl (some (vI (nb 0)))) M2))) :=
  Tq_blk (is := bk_0_7) (dd := de_0) rfl rfl
/-- EarthOfficeLaw law block at 486 -/
theorem t0_8 {x3 : Int} {M : Mem} {Q : AR → Mem → Prop} : Tq 0 8 [vR 32000 0, vR 1 0, vR 22 0, vI x3] [] M Q ↔ (((0 : Int) ≤ w32 (x3 + 1) ∧ w32 (x3 + 1) < M 32 0 0) ∧ ((0 : Int) ≤ w32 (x3 + 2) ∧ w32 (x3 + 2) < M 32 0 0) ∧ ((0 : Int) ≤ w32 (x3 + 3) ∧ w32 (x3 + 3) < M 32 0 0) ∧ ((0 : Int) ≤ w32 (x3 + 4) ∧ w32 (x3 + 4) < M 32 0 0) ∧ ((0 : Int) ≤ w32 (x3 + 5) ∧ w32 (x3 + 5) < M 32 0 0) ∧ Tq 33 0 [vR 1 0, vI (M 32000 0 (w32 (x3 + 1))), vI (M 32000 0 (w32 (x3 + 2))), vI (M 32000 0 (w32 (x3 + 3))), vI (M 32000 0 (w32 (x3 + 4))), vI (M 32000 0 (w32 (x3 + 5)))] [] M (kI fun v1 M1 => ((0 : Int) ≤ w32 (x3 + 1) ∧ w32 (x3 + 1) < M1 32 0 0) ∧ ((0 : Int) ≤ w32 (x3 + 2) ∧ w32 (x3 + 2) < M1 32 0 0) ∧ ((0 : Int) ≤ w32 (x3 + 3) ∧ w32 (x3 + 3) < M1 32 0 0) ∧ ((0 : Int) ≤ w32 (x3 + 4) ∧ w32 (x3 + 4) < M1 32 0 0) ∧ ((0 : Int) ≤ w32 (x3 + 5) ∧ w32 (x3 + 5) < M1 32 0 0) ∧ Tq 283 0 [vR 22 0, vI (M1 32000 0 (w32 (x3 + 1))), vI (M1 32000 0 (w32 (x3 + 2))), vI (M1 32000 0 (w32 (x3 + 3))), vI (M1 32000 0 (w32 (x3 + 4))), vI (M1 32000 0 (w32 (x3 + 5))), vJ, vJ] [] M1 (kI fun v2 M2 => if v1 = v2 then Tq 0 78 [vR 32000 0, vR 1 0, vR 22 0, vI x3] [] M2 Q else Q (.inl (some (vI (nb 0)))) M2))) :=
  Tq_blk (is := bk_0_8) (dd := de_0) rfl rfl
/-- EarthOfficeLaw law block at 549 -/
theorem t0_9 {x3 : Int} {M : Mem} {Q : AR → Mem → Prop} : Tq 0 9 [vR 32000 0, vR 1 0, vR 22 0, vI x3] [] M Q ↔ (((0 : Int) ≤ w32 (x3 + 1) ∧ w32 (x3 + 1) < M 32 0 0) ∧ ((0 : Int) ≤ w32 (x3 + 2) ∧ w32 (x3 + 2) < M 32 0 0) ∧ Tq 35 0 [vR 1 0, vI (M 32000 0 (w32 (x3 + 1))), vI (M 32000 0 (w32 (x3 + 2)))] [] M (kI fun v1 M1 => ((0 : Int) ≤ w32 (x3 + 1) ∧ w32 (x3 + 1) < M1 32 0 0) ∧ ((0 : Int) ≤ w32 (x3 + 2) ∧ w32 (x3 + 2) < M1 32 0 0) ∧ Tq 269 0 [vR 22 0, vI (M1 32000 0 (w32 (x3 + 1))), vI (M1 32000 0 (w32 (x3 + 2)))] [] M1 (kI fun v2 M2 => if v1 = v2 then Tq 0 78 [vR 32000 0, vR 1 0, vR 22 0, vI x3] [] M2 Q else Q (.inl (some (vI (nb 0)))) M2))) :=
  Tq_blk (is := bk_0_9) (dd := de_0) rfl rfl
/-- EarthOfficeLaw law block at 582 -/
theorem t0_10 {x3 : Int} {M : Mem} {Q : AR → Mem → Prop} : Tq 0 10 [vR 32000 0, vR 1 0, vR 22 0, vI x3] [] M Q ↔ (((0 : Int) ≤ w32 (x3 + 1) ∧ w32 (x3 + 1) < M 32 0 0) ∧ ((0 : Int) ≤ w32 (x3 + 2) ∧ w32 (x3 + 2) < M 32 0 0) ∧ Tq 36 0 [vR 1 0, vI (M 32000 0 (w32 (x3 + 1))), vI (M 32000 0 (w32 (x3 + 2)))] [] M (kI fun v1 M1 => ((0 : Int) ≤ w32 (x3 + 1) ∧ w32 (x3 + 1) < M1 32 0 0) ∧ ((0 : Int) ≤ w32 (x3 + 2) ∧ w32 (x3 + 2) < M1 32 0 0) ∧ Tq 271 0 [vR 22 0, vI (M1 32000 0 (w32 (x3 + 1))), vI (M1 32000 0 (w32 (x3 + 2)))] [] M1 (kI fun v2 M2 => if v1 = v2 then Tq 0 78 [vR 32000 0, vR 1 0, vR 22 0, vI x3] [] M2 Q else Q (.inl (some (vI (nb 0)))) M2))) :=
  Tq_blk (is := bk_0_10) (dd := de_0) rfl rfl
/-- EarthOfficeLaw law block at 615 -/
theorem t0_11 {x3 : Int} {M : Mem} {Q : AR → Mem → Prop} : Tq 0 11 [vR 32000 0, vR 1 0, vR 22 0, vI x3] [] M Q ↔ (((0 : Int) ≤ w32 (x3 + 1) ∧ w32 (x3 + 1) < M 32 0 0) ∧ ((0 : Int) ≤ w32 (x3 + 2) ∧ w32 (x3 + 2) < M 32 0 0) ∧ ((0 : Int) ≤ w32 (x3 + 3) ∧ w32 (x3 + 3) < M 32 0 0) ∧ Tq 37 0 [vR 1 0, vI (M 32000 0 (w32 (x3 + 1))), vI (M 32000 0 (w32 (x3 + 2))), vI (M 32000 0 (w32 (x3 + 3)))] [] M (kI fun v1 M1 => ((0 : Int) ≤ w32 (x3 + 1) ∧ w32 (x3 + 1) < M1 32 0 0) ∧ ((0 : Int) ≤ w32 (x3 + 2) ∧ w32 (x3 + 2) < M1 32 0 0) ∧ ((0 : Int) ≤ w32 (x3 + 3) ∧ w32 (x3 + 3) < M1 32 0 0) ∧ Tq 272 0 [vR 22 0, vI (M1 32000 0 (w32 (x3 + 1))), vI (M1 32000 0 (w32 (x3 + 2))), vI (M1 32000 0 (w32 (x3 + 3))), vJ, vJ, vJ] [] M1 (kI fun v2 M2 => if v1 = v2 then Tq 0 78 [vR 32000 0, vR 1 0, vR 22 0, vI x3] [] M2 Q else Q (.inl (some (vI (nb 0)))) M2))) :=
  Tq_blk (is := bk_0_11) (dd := de_0) rfl rfl
/-- EarthOfficeLaw law block at 658 -/
theorem t0_12 {x3 : Int} {M : Mem} {Q : AR → Mem → Prop} : Tq 0 12 [vR 32000 0, vR 1 0, vR 22 0, vI x3] [] M Q ↔ (((0 : Int) ≤ w32 (x3 + 1) ∧ w32 (x3 + 1) < M 32 0 0) ∧ ((0 : Int) ≤ w32 (x3 + 2) ∧ w32 (x3 + 2) < M 32 0 0) ∧ Tq 38 0 [vR 1 0, vI (M 32000 0 (w32 (x3 + 1))), vI (M 32000 0 (w32 (x3 + 2)))] [] M (kL fun v1 M1 => ((0 : Int) ≤ w32 (x3 + 1) ∧ w32 (x3 + 1) < M1 32 0 0) ∧ ((0 : Int) ≤ w32 (x3 + 2) ∧ w32 (x3 + 2) < M1 32 0 0) ∧ Tq 273 0 [vR 22 0, vI (M1 32000 0 (w32 (x3 + 1))), vI (M1 32000 0 (w32 (x3 + 2))), vJ, vJ, vJ, vJ, vJ, vJ, vJ, vJ, vJ] [] M1 (kL fun v2 M2 => if cmp64 v1 v2 = 0 then Tq 0 78 [vR 32000 0, vR 1 0, vR 22 0, vI x3] [] M2 Q else Q (.inl (some (vI (nb 0)))) M2))) :=
  Tq_blk (is := bk_0_12) (dd := de_0) rfl rfl
/-- EarthOfficeLaw law block at 692 -/
theorem t0_13 {x3 : Int} {M : Mem} {Q : AR → Mem → Prop} : Tq 0 13 [vR 32000 0, vR 1 0, vR 22 0, vI x3] [] M Q ↔ (((0 : Int) ≤ w32 (x3 + 1) ∧ w32 (x3 + 1) < M 32 0 0) ∧ ((0 : Int) ≤ w32 (x3 + 2) ∧ w32 (x3 + 2) < M 32 0 0) ∧ ((0 : Int) ≤ w32 (x3 + 3) ∧ w32 (x3 + 3) < M 32 0 0) ∧ ((0 : Int) ≤ w32 (x3 + 4) ∧ w32 (x3 + 4) < M 32 0 0) ∧ Tq 39 0 [vR 1 0, vI (M 32000 0 (w32 (x3 + 1))), vI (M 32000 0 (w32 (x3 + 2))), vI (M 32000 0 (w32 (x3 + 3))), vI (M 32000 0 (w32 (x3 + 4))), vJ] [] M (kI fun v1 M1 => ((0 : Int) ≤ w32 (x3 + 1) ∧ w32 (x3 + 1) < M1 32 0 0) ∧ ((0 : Int) ≤ w32 (x3 + 2) ∧ w32 (x3 + 2) < M1 32 0 0) ∧ ((0 : Int) ≤ w32 (x3 + 3) ∧ w32 (x3 + 3) < M1 32 0 0) ∧ ((0 : Int) ≤ w32 (x3 + 4) ∧ w32 (x3 + 4) < M1 32 0 0) ∧ Tq 288 0 [vR 22 0, vI (M1 32000 0 (w32 (x3 + 1))), vI (M1 32000 0 (w32 (x3 + 2))), vI (M1 32000 0 (w32 (x3 + 3))), vI (M1 32000 0 (w32 (x3 + 4))), vJ] [] M1 (kI fun v2 M2 => if v1 = v2 then Tq 0 78 [vR 32000 0, vR 1 0, vR 22 0, vI x3] [] M2 Q else Q (.inl (some (vI (nb 0)))) M2))) :=
  Tq_blk (is := bk_0_13) (dd := de_0) rfl rfl
/-- EarthOfficeLaw law block at 745 -/
theorem t0_14 {x3 : Int} {M : Mem} {Q : AR → Mem → Prop} : Tq 0 14 [vR 32000 0, vR 1 0, vR 22 0, vI x3] [] M Q ↔ (((0 : Int) ≤ w32 (x3 + 1) ∧ w32 (x3 + 1) < M 32 0 0) ∧ ((0 : Int) ≤ w32 (x3 + 2) ∧ w32 (x3 + 2) < M 32 0 0) ∧ Tq 41 0 [vR 1 0, vI (M 32000 0 (w32 (x3 + 1))), vI (M 32000 0 (w32 (x3 + 2)))] [] M (kI fun v1 M1 => ((0 : Int) ≤ w32 (x3 + 1) ∧ w32 (x3 + 1) < M1 32 0 0) ∧ ((0 : Int) ≤ w32 (x3 + 2) ∧ w32 (x3 + 2) < M1 32 0 0) ∧ Tq 290 0 [vR 22 0, vI (M1 32000 0 (w32 (x3 + 1))), vI (M1 32000 0 (w32 (x3 + 2))), vJ, vJ, vJ, vJ] [] M1 (kI fun v2 M2 => if v1 = v2 then Tq 0 78 [vR 32000 0, vR 1 0, vR 22 0, vI x3] [] M2 Q else Q (.inl (some (vI (nb 0)))) M2))) :=
  Tq_blk (is := bk_0_14) (dd := de_0) rfl rfl
/-- EarthOfficeLaw law block at 778 -/
theorem t0_15 {x3 : Int} {M : Mem} {Q : AR → Mem → Prop} : Tq 0 15 [vR 32000 0, vR 1 0, vR 22 0, vI x3] [] M Q ↔ (((0 : Int) ≤ w32 (x3 + 1) ∧ w32 (x3 + 1) < M 32 0 0) ∧ Tq 42 0 [vR 1 0, vI (M 32000 0 (w32 (x3 + 1)))] [] M (kI fun v1 M1 => ((0 : Int) ≤ w32 (x3 + 1) ∧ w32 (x3 + 1) < M1 32 0 0) ∧ Tq 292 0 [vR 22 0, vI (M1 32000 0 (w32 (x3 + 1))), vJ, vJ] [] M1 (kI fun v2 M2 => if v1 = v2 then Tq 0 78 [vR 32000 0, vR 1 0, vR 22 0, vI x3] [] M2 Q else Q (.inl (some (vI (nb 0)))) M2))) :=
  Tq_blk (is := bk_0_15) (dd := de_0) rfl rfl
/-- EarthOfficeLaw law block at 801 -/
theorem t0_16 {x3 : Int} {M : Mem} {Q : AR → Mem → Prop} : Tq 0 16 [vR 32000 0, vR 1 0, vR 22 0, vI x3] [] M Q ↔ (((0 : Int) ≤ w32 (x3 + 1) ∧ w32 (x3 + 1) < M 32 0 0) ∧ ((0 : Int) ≤ w32 (x3 + 2) ∧ w32 (x3 + 2) < M 32 0 0) ∧ ((0 : Int) ≤ w32 (x3 + 3) ∧ w32 (x3 + 3) < M 32 0 0) ∧ ((0 : Int) ≤ w32 (x3 + 4) ∧ w32 (x3 + 4) < M 32 0 0) ∧ ((0 : Int) ≤ w32 (x3 + 5) ∧ w32 (x3 + 5) < M 32 0 0) ∧ ((0 : Int) ≤ w32 (x3 + 6) ∧ w32 (x3 + 6) < M 32 0 0) ∧ Tq 44 0 [vR 1 0, vI (M 32000 0 (w32 (x3 + 1))), vI (M 32000 0 (w32 (x3 + 2))), vI (M 32000 0 (w32 (x3 + 3))), vI (M 32000 0 (w32 (x3 + 4))), vI (M 32000 0 (w32 (x3 + 5))), vI (M 32000 0 (w32 (x3 + 6)))] [] M (kI fun v1 M1 => ((0 : Int) ≤ w32 (x3 + 1) ∧ w32 (x3 + 1) < M1 32 0 0) ∧ ((0 : Int) ≤ w32 (x3 + 2) ∧ w32 (x3 + 2) < M1 32 0 0) ∧ ((0 : Int) ≤ w32 (x3 + 3) ∧ w32 (x3 + 3) < M1 32 0 0) ∧ ((0 : Int) ≤ w32 (x3 + 4) ∧ w32 (x3 + 4) < M1 32 0 0) ∧ ((0 : Int) ≤ w32 (x3 + 5) ∧ w32 (x3 + 5) < M1 32 0 0) ∧ ((0 : Int) ≤ w32 (x3 + 6) ∧ w32 (x3 + 6) < M1 32 0 0) ∧ Tq 294 0 [vR 22 0, vI (M1 32000 0 (w32 (x3 + 1))), vI (M1 32000 0 (w32 (x3 + 2))), vI (M1 32000 0 (w32 (x3 + 3))), vI (M1 32000 0 (w32 (x3 + 4))), vI (M1 32000 0 (w32 (x3 + 5))), vI (M1 32000 0 (w32 (x3 + 6))), vJ, vJ, vJ, vJ, vJ, vJ, vJ, vJ, vJ, vJ, vJ] [] M1 (kI fun v2 M2 => if v1 = v2 then Tq 0 78 [vR 32000 0, vR 1 0, vR 22 0, vI x3] [] M2 Q else Q (.inl (some (vI (nb 0)))) M2))) :=
  Tq_blk (is := bk_0_16) (dd := de_0) rfl rfl
/-- EarthOfficeLaw law block at 876 -/
theorem t0_17 {x3 : Int} {M : Mem} {Q : AR → Mem → Prop} : Tq 0 17 [vR 32000 0, vR 1 0, vR 22 0, vI x3] [] M Q ↔ (((0 : Int) ≤ w32 (x3 + 1) ∧ w32 (x3 + 1) < M 32 0 0) ∧ ((0 : Int) ≤ w32 (x3 + 2) ∧ w32 (x3 + 2) < M 32 0 0) ∧ ((0 : Int) ≤ w32 (x3 + 3) ∧ w32 (x3 + 3) < M 32 0 0) ∧ Tq 46 0 [vR 1 0, vI (M 32000 0 (w32 (x3 + 1))), vI (M 32000 0 (w32 (x3 + 2))), vI (M 32000 0 (w32 (x3 + 3))), vJ, vJ] [] M (kI fun v1 M1 => ((0 : Int) ≤ w32 (x3 + 1) ∧ w32 (x3 + 1) < M1 32 0 0) ∧ ((0 : Int) ≤ w32 (x3 + 2) ∧ w32 (x3 + 2) < M1 32 0 0) ∧ ((0 : Int) ≤ w32 (x3 + 3) ∧ w32 (x3 + 3) < M1 32 0 0) ∧ Tq 296 0 [vR 22 0, vI (M1 32000 0 (w32 (x3 + 1))), vI (M1 32000 0 (w32 (x3 + 2))), vI (M1 32000 0 (w32 (x3 + 3))), vJ, vJ, vJ, vJ, vJ, vJ, vJ] [] M1 (kI fun v2 M2 => if v1 = v2 then Tq 0 78 [vR 32000 0, vR 1 0, vR 22 0, vI x3] [] M2 Q else Q (.inl (some (vI (nb 0)))) M2))) :=
  Tq_blk (is := bk_0_17) (dd := de_0) rfl rfl
/-- EarthOfficeLaw law block at 919 -/
theorem t0_18 {x3 : Int} {M : Mem} {Q : AR → Mem → Prop} : Tq 0 18 [vR 32000 0, vR 1 0, vR 22 0, vI x3] [] M Q ↔ (((0 : Int) ≤ w32 (x3 + 1) ∧ w32 (x3 + 1) < M 32 0 0) ∧ ((0 : Int) ≤ w32 (x3 + 2) ∧ w32 (x3 + 2) < M 32 0 0) ∧ Tq 47 0 [vR 1 0, vI (M 32000 0 (w32 (x3 + 1))), vI (M 32000 0 (w32 (x3 + 2)))] [] M (kI fun v1 M1 => ((0 : Int) ≤ w32 (x3 + 1) ∧ w32 (x3 + 1) < M1 32 0 0) ∧ ((0 : Int) ≤ w32 (x3 + 2) ∧ w32 (x3 + 2) < M1 32 0 0) ∧ Tq 297 0 [vR 22 0, vI (M1 32000 0 (w32 (x3 + 1))), vI (M1 32000 0 (w32 (x3 + 2)))] [] M1 (kI fun v2 M2 => if v1 = v2 then Tq 0 78 [vR 32000 0, vR 1 0, vR 22 0, vI x3] [] M2 Q else Q (.inl (some (vI (nb 0)))) M2))) :=
  Tq_blk (is := bk_0_18) (dd := de_0) rfl rfl
/-- EarthOfficeLaw law block at 952 -/
theorem t0_19 {x3 : Int} {M : Mem} {Q : AR → Mem → Prop} : Tq 0 19 [vR 32000 0, vR 1 0, vR 22 0, vI x3] [] M Q ↔ (((0 : Int) ≤ w32 (x3 + 1) ∧ w32 (x3 + 1) < M 32 0 0) ∧ ((0 : Int) ≤ w32 (x3 + 2) ∧ w32 (x3 + 2) < M 32 0 0) ∧ Tq 48 0 [vR 1 0, vI (M 32000 0 (w32 (x3 + 1))), vI (M 32000 0 (w32 (x3 + 2))), vJ] [] M (kI fun v1 M1 => ((0 : Int) ≤ w32 (x3 + 1) ∧ w32 (x3 + 1) < M1 32 0 0) ∧ ((0 : Int) ≤ w32 (x3 + 2) ∧ w32 (x3 + 2) < M1 32 0 0) ∧ Tq 298 0 [vR 22 0, vI (M1 32000 0 (w32 (x3 + 1))), vI (M1 32000 0 (w32 (x3 + 2)))] [] M1 (kI fun v2 M2 => if v1 = v2 then Tq 0 78 [vR 32000 0, vR 1 0, vR 22 0, vI x3] [] M2 Q else Q (.inl (some (vI (nb 0)))) M2))) :=
  Tq_blk (is := bk_0_19) (dd := de_0) rfl rfl
/-- EarthOfficeLaw law block at 985 -/
theorem t0_20 {x3 : Int} {M : Mem} {Q : AR → Mem → Prop} : Tq 0 20 [vR 32000 0, vR 1 0, vR 22 0, vI x3] [] M Q ↔ (((0 : Int) ≤ w32 (x3 + 1) ∧ w32 (x3 + 1) < M 32 0 0) ∧ ((0 : Int) ≤ w32 (x3 + 2) ∧ w32 (x3 + 2) < M 32 0 0) ∧ ((0 : Int) ≤ w32 (x3 + 3) ∧ w32 (x3 + 3) < M 32 0 0) ∧ Tq 49 0 [vR 1 0, vI (M 32000 0 (w32 (x3 + 1))), vI (M 32000 0 (w32 (x3 + 2))), vI (M 32000 0 (w32 (x3 + 3))), vJ, vJ, vJ, vJ, vJ, vJ, vJ] [] M (kL fun v1 M1 => ((0 : Int) ≤ w32 (x3 + 1) ∧ w32 (x3 + 1) < M1 32 0 0) ∧ ((0 : Int) ≤ w32 (x3 + 2) ∧ w32 (x3 + 2) < M1 32 0 0) ∧ ((0 : Int) ≤ w32 (x3 + 3) ∧ w32 (x3 + 3) < M1 32 0 0) ∧ Tq 299 0 [vR 22 0, vI (M1 32000 0 (w32 (x3 + 1))), vI (M1 32000 0 (w32 (x3 + 2))), vI (M1 32000 0 (w32 (x3 + 3))), vJ, vJ, vJ, vJ, vJ] [] M1 (kL fun v2 M2 => if cmp64 v1 v2 = 0 then Tq 0 78 [vR 32000 0, vR 1 0, vR 22 0, vI x3] [] M2 Q else Q (.inl (some (vI (nb 0)))) M2))) :=
  Tq_blk (is := bk_0_20) (dd := de_0) rfl rfl
/-- EarthOfficeLaw law block at 1029 -/
theorem t0_21 {x3 : Int} {M : Mem} {Q : AR → Mem → Prop} : Tq 0 21 [vR 32000 0, vR 1 0, vR 22 0, vI x3] [] M Q ↔ (((0 : Int) ≤ w32 (x3 + 1) ∧ w32 (x3 + 1) < M 32 0 0) ∧ ((0 : Int) ≤ w32 (x3 + 2) ∧ w32 (x3 + 2) < M 32 0 0) ∧ ((0 : Int) ≤ w32 (x3 + 3) ∧ w32 (x3 + 3) < M 32 0 0) ∧ ((0 : Int) ≤ w32 (x3 + 4) ∧ w32 (x3 + 4) < M 32 0 0) ∧ ((0 : Int) ≤ w32 (x3 + 5) ∧ w32 (x3 + 5) < M 32 0 0) ∧ ((0 : Int) ≤ w32 (x3 + 6) ∧ w32 (x3 + 6) < M 32 0 0) ∧ ((0 : Int) ≤ w32 (x3 + 7) ∧ w32 (x3 + 7) < M 32 0 0) ∧ Tq 51 0 [vR 1 0, vI (M 32000 0 (w32 (x3 + 1))), vI (M 32000 0 (w32 (x3 + 2))), vI (M 32000 0 (w32 (x3 + 3))), vI (M 32000 0 (w32 (x3 + 4))), vI (M 32000 0 (w32 (x3 + 5))), vI (M 32000 0 (w32 (x3 + 6))), vI (M 32000 0 (w32 (x3 + 7))), vJ, vJ, vJ] [] M (kI fun v1 M1 => ((0 : Int) ≤ w32 (x3 + 1) ∧ w32 (x3 + 1) < M1 32 0 0) ∧ ((0 : Int) ≤ w32 (x3 + 2) ∧ w32 (x3 + 2) < M1 32 0 0) ∧ ((0 : Int) ≤ w32 (x3 + 3) ∧ w32 (x3 + 3) < M1 32 0 0) ∧ ((0 : Int) ≤ w32 (x3 + 4) ∧ w32 (x3 + 4) < M1 32 0 0) ∧ ((0 : Int) ≤ w32 (x3 + 5) ∧ w32 (x3 + 5) < M1 32 0 0) ∧ ((0 : Int) ≤ w32 (x3 + 6) ∧ w32 (x3 + 6) < M1 32 0 0) ∧ ((0 : Int) ≤ w32 (x3 + 7) ∧ w32 (x3 + 7) < M1 32 0 0) ∧ Tq 301 0 [vR 22 0, vI (M1 32000 0 (w32 (x3 + 1))), vI (M1 32000 0 (w32 (x3 + 2))), vI (M1 32000 0 (w32 (x3 + 3))), vI (M1 32000 0 (w32 (x3 + 4))), vI (M1 32000 0 (w32 (x3 + 5))), vI (M1 32000 0 (w32 (x3 + 6))), vI (M1 32000 0 (w32 (x3 + 7))), vJ, vJ, vJ] [] M1 (kI fun v2 M2 => if v1 = v2 then Tq 0 78 [vR 32000 0, vR 1 0, vR 22 0, vI x3] [] M2 Q else Q (.inl (some (vI (nb 0)))) M2))) :=
  Tq_blk (is := bk_0_21) (dd := de_0) rfl rfl
/-- EarthOfficeLaw law block at 1116 -/
theorem t0_22 {x3 : Int} {M : Mem} {Q : AR → Mem → Prop} : Tq 0 22 [vR 32000 0, vR 1 0, vR 22 0, vI x3] [] M Q ↔ (((0 : Int) ≤ w32 (x3 + 1) ∧ w32 (x3 + 1) < M 32 0 0) ∧ ((0 : Int) ≤ w32 (x3 + 2) ∧ w32 (x3 + 2) < M 32 0 0) ∧ ((0 : Int) ≤ w32 (x3 + 3) ∧ w32 (x3 + 3) < M 32 0 0) ∧ ((0 : Int) ≤ w32 (x3 + 4) ∧ w32 (x3 + 4) < M 32 0 0) ∧ Tq 54 0 [vR 1 0, vI (M 32000 0 (w32 (x3 + 1))), vI (M 32000 0 (w32 (x3 + 2))), vI (M 32000 0 (w32 (x3 + 3))), vI (M 32000 0 (w32 (x3 + 4)))] [] M (kI fun v1 M1 => ((0 : Int) ≤ w32 (x3 + 1) ∧ w32 (x3 + 1) < M1 32 0 0) ∧ ((0 : Int) ≤ w32 (x3 + 2) ∧ w32 (x3 + 2) < M1 32 0 0) ∧ ((0 : Int) ≤ w32 (x3 + 3) ∧ w32 (x3 + 3) < M1 32 0 0) ∧ ((0 : Int) ≤ w32 (x3 + 4) ∧ w32 (x3 + 4) < M1 32 0 0) ∧ Tq 307 0 [vR 22 0, vI (M1 32000 0 (w32 (x3 + 1))), vI (M1 32000 0 (w32 (x3 + 2))), vI (M1 32000 0 (w32 (x3 + 3))), vI (M1 32000 0 (w32 (x3 + 4)))] [] M1 (kI fun v2 M2 => if v1 = v2 then Tq 0 78 [vR 32000 0, vR 1 0, vR 22 0, vI x3] [] M2 Q else Q (.inl (some (vI (nb 0)))) M2))) :=
  Tq_blk (is := bk_0_22) (dd := de_0) rfl rfl
/-- EarthOfficeLaw law block at 1169 -/
theorem t0_23 {x3 : Int} {M : Mem} {Q : AR → Mem → Prop} : Tq 0 23 [vR 32000 0, vR 1 0, vR 22 0, vI x3] [] M Q ↔ (((0 : Int) ≤ w32 (x3 + 1) ∧ w32 (x3 + 1) < M 32 0 0) ∧ ((0 : Int) ≤ w32 (x3 + 2) ∧ w32 (x3 + 2) < M 32 0 0) ∧ Tq 55 0 [vR 1 0, vI (M 32000 0 (w32 (x3 + 1))), vI (M 32000 0 (w32 (x3 + 2)))] [] M (kI fun v1 M1 => ((0 : Int) ≤ w32 (x3 + 1) ∧ w32 (x3 + 1) < M1 32 0 0) ∧ ((0 : Int) ≤ w32 (x3 + 2) ∧ w32 (x3 + 2) < M1 32 0 0) ∧ Tq 308 0 [vR 22 0, vI (M1 32000 0 (w32 (x3 + 1))), vI (M1 32000 0 (w32 (x3 + 2)))] [] M1 (kI fun v2 M2 => if v1 = v2 then Tq 0 78 [vR 32000 0, vR 1 0, vR 22 0, vI x3] [] M2 Q else Q (.inl (some (vI (nb 0)))) M2))) :=
  Tq_blk (is := bk_0_23) (dd := de_0) rfl rfl
/-- EarthOfficeLaw law block at 1202 -/
theorem t0_24 {x3 : Int} {M : Mem} {Q : AR → Mem → Prop} : Tq 0 24 [vR 32000 0, vR 1 0, vR 22 0, vI x3] [] M Q ↔ (Tq 56 0 [vR 1 0, vJ] [] M (kI fun v1 M1 => Tq 309 0 [vR 22 0, vJ] [] M1 (kI fun v2 M2 => if v1 = v2 then Tq 0 78 [vR 32000 0, vR 1 0, vR 22 0, vI x3] [] M2 Q else Q (.inl (some (vI (nb 0)))) M2))) :=
  Tq_blk (is := bk_0_24) (dd := de_0) rfl rfl
/-- EarthOfficeLaw law block at 1215 -/
theorem t0_25 {x3 : Int} {M : Mem} {Q : AR → Mem → Prop} : Tq 0 25 [vR 32000 0, vR 1 0, vR 22 0, vI x3] [] M Q ↔ (((0 : Int) ≤ w32 (x3 + 1) ∧ w32 (x3 + 1) < M 32 0 0) ∧ ((0 : Int) ≤ w32 (x3 + 2) ∧ w32 (x3 + 2) < M 32 0 0) ∧ ((0 : Int) ≤ w32 (x3 + 3) ∧ w32 (x3 + 3) < M 32 0 0) ∧ Tq 57 0 [vR 1 0, vI (M 32000 0 (w32 (x3 + 1))), vI (M 32000 0 (w32 (x3 + 2))), vI (M 32000 0 (w32 (x3 + 3)))] [] M (kI fun v1 M1 => ((0 : Int) ≤ w32 (x3 + 1) ∧ w32 (x3 + 1) < M1 32 0 0) ∧ ((0 : Int) ≤ w32 (x3 + 2) ∧ w32 (x3 + 2) < M1 32 0 0) ∧ ((0 : Int) ≤ w32 (x3 + 3) ∧ w32 (x3 + 3) < M1 32 0 0) ∧ Tq 205 0 [vR 22 0, vI (M1 32000 0 (w32 (x3 + 1))), vI (M1 32000 0 (w32 (x3 + 2))), vI (M1 32000 0 (w32 (x3 + 3)))] [] M1 (kI fun v2 M2 => if v1 = v2 then Tq 0 78 [vR 32000 0, vR 1 0, vR 22 0, vI x3] [] M2 Q else Q (.inl (some (vI (nb 0)))) M2))) :=
  Tq_blk (is := bk_0_25) (dd := de_0) rfl rfl
/-- EarthOfficeLaw law block at 1258 -/
theorem t0_26 {x3 : Int} {M : Mem} {Q : AR → Mem → Prop} : Tq 0 26 [vR 32000 0, vR 1 0, vR 22 0, vI x3] [] M Q ↔ (((0 : Int) ≤ w32 (x3 + 1) ∧ w32 (x3 + 1) < M 32 0 0) ∧ ((0 : Int) ≤ w32 (x3 + 2) ∧ w32 (x3 + 2) < M 32 0 0) ∧ ((0 : Int) ≤ w32 (x3 + 3) ∧ w32 (x3 + 3) < M 32 0 0) ∧ Tq 58 0 [vR 1 0, vI (M 32000 0 (w32 (x3 + 1))), vI (M 32000 0 (w32 (x3 + 2))), vI (M 32000 0 (w32 (x3 + 3)))] [] M (kI fun v1 M1 => ((0 : Int) ≤ w32 (x3 + 1) ∧ w32 (x3 + 1) < M1 32 0 0) ∧ ((0 : Int) ≤ w32 (x3 + 2) ∧ w32 (x3 + 2) < M1 32 0 0) ∧ ((0 : Int) ≤ w32 (x3 + 3) ∧ w32 (x3 + 3) < M1 32 0 0) ∧ Tq 310 0 [vR 22 0, vI (M1 32000 0 (w32 (x3 + 1))), vI (M1 32000 0 (w32 (x3 + 2))), vI (M1 32000 0 (w32 (x3 + 3)))] [] M1 (kI fun v2 M2 => if v1 = v2 then Tq 0 78 [vR 32000 0, vR 1 0, vR 22 0, vI x3] [] M2 Q else Q (.inl (some (vI (nb 0)))) M2))) :=
  Tq_blk (is := bk_0_26) (dd := de_0) rfl rfl
/-- EarthOfficeLaw law block at 1301 -/
theorem t0_27 {x3 : Int} {M : Mem} {Q : AR → Mem → Prop} : Tq 0 27 [vR 32000 0, vR 1 0, vR 22 0, vI x3] [] M Q ↔ (((0 : Int) ≤ w32 (x3 + 1) ∧ w32 (x3 + 1) < M 32 0 0) ∧ ((0 : Int) ≤ w32 (x3 + 2) ∧ w32 (x3 + 2) < M 32 0 0) ∧ ((0 : Int) ≤ w32 (x3 + 3) ∧ w32 (x3 + 3) < M 32 0 0) ∧ Tq 59 0 [vR 1 0, vI (M 32000 0 (w32 (x3 + 1))), vI (M 32000 0 (w32 (x3 + 2))), vI (M 32000 0 (w32 (x3 + 3)))] [] M (kI fun v1 M1 => ((0 : Int) ≤ w32 (x3 + 1) ∧ w32 (x3 + 1) < M1 32 0 0) ∧ ((0 : Int) ≤ w32 (x3 + 2) ∧ w32 (x3 + 2) < M1 32 0 0) ∧ ((0 : Int) ≤ w32 (x3 + 3) ∧ w32 (x3 + 3) < M1 32 0 0) ∧ Tq 311 0 [vR 22 0, vI (M1 32000 0 (w32 (x3 + 1))), vI (M1 32000 0 (w32 (x3 + 2))), vI (M1 32000 0 (w32 (x3 + 3))), vJ] [] M1 (kI fun v2 M2 => if v1 = v2 then Tq 0 78 [vR 32000 0, vR 1 0, vR 22 0, vI x3] [] M2 Q else Q (.inl (some (vI (nb 0)))) M2))) :=
  Tq_blk (is := bk_0_27) (dd := de_0) rfl rfl
/-- EarthOfficeLaw law block at 1344 -/
theorem t0_28 {x3 : Int} {M : Mem} {Q : AR → Mem → Prop} : Tq 0 28 [vR 32000 0, vR 1 0, vR 22 0, vI x3] [] M Q ↔ (((0 : Int) ≤ w32 (x3 + 1) ∧ w32 (x3 + 1) < M 32 0 0) ∧ ((0 : Int) ≤ w32 (x3 + 2) ∧ w32 (x3 + 2) < M 32 0 0) ∧ Tq 60 0 [vR 1 0, vI (M 32000 0 (w32 (x3 + 1))), vI (M 32000 0 (w32 (x3 + 2))), vJ, vJ] [] M (kI fun v1 M1 => ((0 : Int) ≤ w32 (x3 + 1) ∧ w32 (x3 + 1) < M1 32 0 0) ∧ ((0 : Int) ≤ w32 (x3 + 2) ∧ w32 (x3 + 2) < M1 32 0 0) ∧ Tq 312 0 [vR 22 0, vI (M1 32000 0 (w32 (x3 + 1))), vI (M1 32000 0 (w32 (x3 + 2))), vJ, vJ, vJ, vJ, vJ, vJ, vJ] [] M1 (kI fun v2 M2 => if v1 = v2 then Tq 0 78 [vR 32000 0, vR 1 0, vR 22 0, vI x3] [] M2 Q else Q (.inl (some (vI (nb 0)))) M2))) :=
  Tq_blk (is := bk_0_28) (dd := de_0) rfl rfl
/-- EarthOfficeLaw law block at 1377 -/
theorem t0_29 {x3 : Int} {M : Mem} {Q : AR → Mem → Prop} : Tq 0 29 [vR 32000 0, vR 1 0, vR 22 0, vI x3] [] M Q ↔ (((0 : Int) ≤ w32 (x3 + 1) ∧ w32 (x3 + 1) < M 32 0 0) ∧ Tq 64 0 [vR 1 0, vI (M 32000 0 (w32 (x3 + 1))), vJ] [] M (kI fun v1 M1 => ((0 : Int) ≤ w32 (x3 + 1) ∧ w32 (x3 + 1) < M1 32 0 0) ∧ Tq 316 0 [vR 22 0, vI (M1 32000 0 (w32 (x3 + 1))), vJ, vJ, vJ, vJ, vJ] [] M1 (kI fun v2 M2 => if v1 = v2 then Tq 0 78 [vR 32000 0, vR 1 0, vR 22 0, vI x3] [] M2 Q else Q (.inl (some (vI (nb 0)))) M2))) :=
  Tq_blk (is := bk_0_29) (dd := de_0) rfl rfl
/-- EarthOfficeLaw law block at 1400 -/
theorem t0_30 {x3 : Int} {M : Mem} {Q : AR → Mem → Prop} : Tq 0 30 [vR 32000 0, vR 1 0, vR 22 0, vI x3] [] M Q ↔ (((0 : Int) ≤ w32 (x3 + 1) ∧ w32 (x3 + 1) < M 32 0 0) ∧ Tq 67 0 [vR 1 0, vI (M 32000 0 (w32 (x3 + 1))), vJ, vJ, vJ] [] M (kI fun v1 M1 => ((0 : Int) ≤ w32 (x3 + 1) ∧ w32 (x3 + 1) < M1 32 0 0) ∧ Tq 318 0 [vR 22 0, vI (M1 32000 0 (w32 (x3 + 1))), vJ, vJ, vJ, vJ] [] M1 (kI fun v2 M2 => if v1 = v2 then Tq 0 78 [vR 32000 0, vR 1 0, vR 22 0, vI x3] [] M2 Q else Q (.inl (some (vI (nb 0)))) M2))) :=
  Tq_blk (is := bk_0_30) (dd := de_0) rfl rfl
/-- EarthOfficeLaw law block at 1423 -/
theorem t0_31 {x3 : Int} {M : Mem} {Q : AR → Mem → Prop} : Tq 0 31 [vR 32000 0, vR 1 0, vR 22 0, vI x3] [] M Q ↔ (((0 : Int) ≤ w32 (x3 + 1) ∧ w32 (x3 + 1) < M 32 0 0) ∧ ((0 : Int) ≤ w32 (x3 + 2) ∧ w32 (x3 + 2) < M 32 0 0) ∧ Tq 68 0 [vR 1 0, vI (M 32000 0 (w32 (x3 + 1))), vI (M 32000 0 (w32 (x3 + 2)))] [] M (kI fun v1 M1 => ((0 : Int) ≤ w32 (x3 + 1) ∧ w32 (x3 + 1) < M1 32 0 0) ∧ ((0 : Int) ≤ w32 (x3 + 2) ∧ w32 (x3 + 2) < M1 32 0 0) ∧ Tq 212 0 [vR 22 0, vI (M1 32000 0 (w32 (x3 + 1))), vI (M1 32000 0 (w32 (x3 + 2))), vJ, vJ, vJ, vJ, vJ, vJ] [] M1 (kI fun v2 M2 => if v1 = v2 then Tq 0 78 [vR 32000 0, vR 1 0, vR 22 0, vI x3] [] M2 Q else Q (.inl (some (vI (nb 0)))) M2))) :=
  Tq_blk (is := bk_0_31) (dd := de_0) rfl rfl
/-- EarthOfficeLaw law block at 1456 -/
theorem t0_32 {x3 : Int} {M : Mem} {Q : AR → Mem → Prop} : Tq 0 32 [vR 32000 0, vR 1 0, vR 22 0, vI x3] [] M Q ↔ (((0 : Int) ≤ w32 (x3 + 1) ∧ w32 (x3 + 1) < M 32 0 0) ∧ ((0 : Int) ≤ w32 (x3 + 2) ∧ w32 (x3 + 2) < M 32 0 0) ∧ Tq 69 0 [vR 1 0, vI (M 32000 0 (w32 (x3 + 1))), vI (M 32000 0 (w32 (x3 + 2))), vJ] [] M (kI fun v1 M1 => ((0 : Int) ≤ w32 (x3 + 1) ∧ w32 (x3 + 1) < M1 32 0 0) ∧ ((0 : Int) ≤ w32 (x3 + 2) ∧ w32 (x3 + 2) < M1 32 0 0) ∧ Tq 320 0 [vR 22 0, vI (M1 32000 0 (w32 (x3 + 1))), vI (M1 32000 0 (w32 (x3 + 2))), vJ, vJ] [] M1 (kI fun v2 M2 => if v1 = v2 then Tq 0 78 [vR 32000 0, vR 1 0, vR 22 0, vI x3] [] M2 Q else Q (.inl (some (vI (nb 0)))) M2))) :=
  Tq_blk (is := bk_0_32) (dd := de_0) rfl rfl
/-- EarthOfficeLaw law block at 1489 -/
theorem t0_33 {x3 : Int} {M : Mem} {Q : AR → Mem → Prop} : Tq 0 33 [vR 32000 0, vR 1 0, vR 22 0, vI x3] [] M Q ↔ (((0 : Int) ≤ w32 (x3 + 1) ∧ w32 (x3 + 1) < M 32 0 0) ∧ ((0 : Int) ≤ w32 (x3 + 2) ∧ w32 (x3 + 2) < M 32 0 0) ∧ ((0 : Int) ≤ w32 (x3 + 3) ∧ w32 (x3 + 3) < M 32 0 0) ∧ Tq 70 0 [vR 1 0, vI (M 32000 0 (w32 (x3 + 1))), vI (M 32000 0 (w32 (x3 + 2))), vI (M 32000 0 (w32 (x3 + 3)))] [] M (kI fun v1 M1 => ((0 : Int) ≤ w32 (x3 + 1) ∧ w32 (x3 + 1) < M1 32 0 0) ∧ ((0 : Int) ≤ w32 (x3 + 2) ∧ w32 (x3 + 2) < M1 32 0 0) ∧ ((0 : Int) ≤ w32 (x3 + 3) ∧ w32 (x3 + 3) < M1 32 0 0) ∧ Tq 321 0 [vR 22 0, vI (M1 32000 0 (w32 (x3 + 1))), vI (M1 32000 0 (w32 (x3 + 2))), vI (M1 32000 0 (w32 (x3 + 3)))] [] M1 (kI fun v2 M2 => if v1 = v2 then Tq 0 78 [vR 32000 0, vR 1 0, vR 22 0, vI x3] [] M2 Q else Q (.inl (some (vI (nb 0)))) M2))) :=
  Tq_blk (is := bk_0_33) (dd := de_0) rfl rfl
/-- EarthOfficeLaw law block at 1532 -/
theorem t0_34 {x3 : Int} {M : Mem} {Q : AR → Mem → Prop} : Tq 0 34 [vR 32000 0, vR 1 0, vR 22 0, vI x3] [] M Q ↔ (((0 : Int) ≤ w32 (x3 + 1) ∧ w32 (x3 + 1) < M 32 0 0) ∧ ((0 : Int) ≤ w32 (x3 + 2) ∧ w32 (x3 + 2) < M 32 0 0) ∧ ((0 : Int) ≤ w32 (x3 + 3) ∧ w32 (x3 + 3) < M 32 0 0) ∧ Tq 71 0 [vR 1 0, vI (M 32000 0 (w32 (x3 + 1))), vI (M 32000 0 (w32 (x3 + 2))), vI (M 32000 0 (w32 (x3 + 3)))] [] M (kI fun v1 M1 => ((0 : Int) ≤ w32 (x3 + 1) ∧ w32 (x3 + 1) < M1 32 0 0) ∧ ((0 : Int) ≤ w32 (x3 + 2) ∧ w32 (x3 + 2) < M1 32 0 0) ∧ ((0 : Int) ≤ w32 (x3 + 3) ∧ w32 (x3 + 3) < M1 32 0 0) ∧ Tq 322 0 [vR 22 0, vI (M1 32000 0 (w32 (x3 + 1))), vI (M1 32000 0 (w32 (x3 + 2))), vI (M1 32000 0 (w32 (x3 + 3)))] [] M1 (kI fun v2 M2 => if v1 = v2 then Tq 0 78 [vR 32000 0, vR 1 0, vR 22 0, vI x3] [] M2 Q else Q (.inl (some (vI (nb 0)))) M2))) :=
  Tq_blk (is := bk_0_34) (dd := de_0) rfl rfl
/-- EarthOfficeLaw law block at 1575 -/
theorem t0_35 {x3 : Int} {M : Mem} {Q : AR → Mem → Prop} : Tq 0 35 [vR 32000 0, vR 1 0, vR 22 0, vI x3] [] M Q ↔ (((0 : Int) ≤ w32 (x3 + 1) ∧ w32 (x3 + 1) < M 32 0 0) ∧ ((0 : Int) ≤ w32 (x3 + 2) ∧ w32 (x3 + 2) < M 32 0 0) ∧ Tq 72 0 [vR 1 0, vI (M 32000 0 (w32 (x3 + 1))), vI (M 32000 0 (w32 (x3 + 2)))] [] M (kI fun v1 M1 => ((0 : Int) ≤ w32 (x3 + 1) ∧ w32 (x3 + 1) < M1 32 0 0) ∧ ((0 : Int) ≤ w32 (x3 + 2) ∧ w32 (x3 + 2) < M1 32 0 0) ∧ Tq 214 0 [vR 22 0, vI (M1 32000 0 (w32 (x3 + 1))), vI (M1 32000 0 (w32 (x3 + 2))), vJ] [] M1 (kI fun v2 M2 => if v1 = v2 then Tq 0 78 [vR 32000 0, vR 1 0, vR 22 0, vI x3] [] M2 Q else Q (.inl (some (vI (nb 0)))) M2))) :=
  Tq_blk (is := bk_0_35) (dd := de_0) rfl rfl
/-- EarthOfficeLaw law block at 1608 -/
theorem t0_36 {x3 : Int} {M : Mem} {Q : AR → Mem → Prop} : Tq 0 36 [vR 32000 0, vR 1 0, vR 22 0, vI x3] [] M Q ↔ (((0 : Int) ≤ w32 (x3 + 1) ∧ w32 (x3 + 1) < M 32 0 0) ∧ ((0 : Int) ≤ w32 (x3 + 2) ∧ w32 (x3 + 2) < M 32 0 0) ∧ Tq 73 0 [vR 1 0, vI (M 32000 0 (w32 (x3 + 1))), vI (M 32000 0 (w32 (x3 + 2))), vJ] [] M (kI fun v1 M1 => ((0 : Int) ≤ w32 (x3 + 1) ∧ w32 (x3 + 1) < M1 32 0 0) ∧ ((0 : Int) ≤ w32 (x3 + 2) ∧ w32 (x3 + 2) < M1 32 0 0) ∧ Tq 215 0 [vR 22 0, vI (M1 32000 0 (w32 (x3 + 1))), vI (M1 32000 0 (w32 (x3 + 2))), vJ] [] M1 (kI fun v2 M2 => if v1 = v2 then Tq 0 78 [vR 32000 0, vR 1 0, vR 22 0, vI x3] [] M2 Q else Q (.inl (some (vI (nb 0)))) M2))) :=
  Tq_blk (is := bk_0_36) (dd := de_0) rfl rfl
/-- EarthOfficeLaw law block at 1641 -/
theorem t0_37 {x3 : Int} {M : Mem} {Q : AR → Mem → Prop} : Tq 0 37 [vR 32000 0, vR 1 0, vR 22 0, vI x3] [] M Q ↔ (((0 : Int) ≤ w32 (x3 + 1) ∧ w32 (x3 + 1) < M 32 0 0) ∧ ((0 : Int) ≤ w32 (x3 + 2) ∧ w32 (x3 + 2) < M 32 0 0) ∧ ((0 : Int) ≤ w32 (x3 + 3) ∧ w32 (x3 + 3) < M 32 0 0) ∧ ((0 : Int) ≤ w32 (x3 + 4) ∧ w32 (x3 + 4) < M 32 0 0) ∧ Tq 74 0 [vR 1 0, vI (M 32000 0 (w32 (x3 + 1))), vI (M 32000 0 (w32 (x3 + 2))), vI (M 32000 0 (w32 (x3 + 3))), vI (M 32000 0 (w32 (x3 + 4)))] [] M (kI fun v1 M1 => ((0 : Int) ≤ w32 (x3 + 1) ∧ w32 (x3 + 1) < M1 32 0 0) ∧ ((0 : Int) ≤ w32 (x3 + 2) ∧ w32 (x3 + 2) < M1 32 0 0) ∧ ((0 : Int) ≤ w32 (x3 + 3) ∧ w32 (x3 + 3) < M1 32 0 0) ∧ ((0 : Int) ≤ w32 (x3 + 4) ∧ w32 (x3 + 4) < M1 32 0 0) ∧ Tq 217 0 [vR 22 0, vI (M1 32000 0 (w32 (x3 + 1))), vI (M1 32000 0 (w32 (x3 + 2))), vI (M1 32000 0 (w32 (x3 + 3))), vI (M1 32000 0 (w32 (x3 + 4))), vJ] [] M1 (kI fun v2 M2 => if v1 = v2 then Tq 0 78 [vR 32000 0, vR 1 0, vR 22 0, vI x3] [] M2 Q else Q (.inl (some (vI (nb 0)))) M2))) :=
  Tq_blk (is := bk_0_37) (dd := de_0) rfl rfl
/-- EarthOfficeLaw law block at 1694 -/
theorem t0_38 {x3 : Int} {M : Mem} {Q : AR → Mem → Prop} : Tq 0 38 [vR 32000 0, vR 1 0, vR 22 0, vI x3] [] M Q ↔ (((0 : Int) ≤ w32 (x3 + 1) ∧ w32 (x3 + 1) < M 32 0 0) ∧ ((0 : Int) ≤ w32 (x3 + 2) ∧ w32 (x3 + 2) < M 32 0 0) ∧ ((0 : Int) ≤ w32 (x3 + 3) ∧ w32 (x3 + 3) < M 32 0 0) ∧ Tq 75 0 [vR 1 0, vI (M 32000 0 (w32 (x3 + 1))), vI (M 32000 0 (w32 (x3 + 2))), vI (M 32000 0 (w32 (x3 + 3)))] [] M (kI fun v1 M1 => ((0 : Int) ≤ w32 (x3 + 1) ∧ w32 (x3 + 1) < M1 32 0 0) ∧ ((0 : Int) ≤ w32 (x3 + 2) ∧ w32 (x3 + 2) < M1 32 0 0) ∧ ((0 : Int) ≤ w32 (x3 + 3) ∧ w32 (x3 + 3) < M1 32 0 0) ∧ Tq 218 0 [vR 22 0, vI (M1 32000 0 (w32 (x3 + 1))), vI (M1 32000 0 (w32 (x3 + 2))), vI (M1 32000 0 (w32 (x3 + 3)))] [] M1 (kI fun v2 M2 => if v1 = v2 then Tq 0 78 [vR 32000 0, vR 1 0, vR 22 0, vI x3] [] M2 Q else Q (.inl (some (vI (nb 0)))) M2))) :=
  Tq_blk (is := bk_0_38) (dd := de_0) rfl rfl
/-- EarthOfficeLaw law block at 1737 -/
theorem t0_39 {x3 : Int} {M : Mem} {Q : AR → Mem → Prop} : Tq 0 39 [vR 32000 0, vR 1 0, vR 22 0, vI x3] [] M Q ↔ (((0 : Int) ≤ w32 (x3 + 1) ∧ w32 (x3 + 1) < M 32 0 0) ∧ ((0 : Int) ≤ w32 (x3 + 2) ∧ w32 (x3 + 2) < M 32 0 0) ∧ Tq 76 0 [vR 1 0, vI (M 32000 0 (w32 (x3 + 1))), vI (M 32000 0 (w32 (x3 + 2)))] [] M (kI fun v1 M1 => ((0 : Int) ≤ w32 (x3 + 1) ∧ w32 (x3 + 1) < M1 32 0 0) ∧ ((0 : Int) ≤ w32 (x3 + 2) ∧ w32 (x3 + 2) < M1 32 0 0) ∧ Tq 243 0 [vR 22 0, vI (M1 32000 0 (w32 (x3 + 1))), vI (M1 32000 0 (w32 (x3 + 2))), vJ, vJ, vJ, vJ] [] M1 (kI fun v2 M2 => if v1 = v2 then Tq 0 78 [vR 32000 0, vR 1 0, vR 22 0, vI x3] [] M2 Q else Q (.inl (some (vI (nb 0)))) M2))) :=
  Tq_blk (is := bk_0_39) (dd := de_0) rfl rfl
/-- EarthOfficeLaw law block at 1770 -/
theorem t0_40 {x3 : Int} {M : Mem} {Q : AR → Mem → Prop} : Tq 0 40 [vR 32000 0, vR 1 0, vR 22 0, vI x3] [] M Q ↔ (((0 : Int) ≤ w32 (x3 + 1) ∧ w32 (x3 + 1) < M 32 0 0) ∧ ((0 : Int) ≤ w32 (x3 + 2) ∧ w32 (x3 + 2) < M 32 0 0) ∧ Tq 78 0 [vR 1 0, vI (M 32000 0 (w32 (x3 + 1))), vI (M 32000 0 (w32 (x3 + 2))), vJ] [] M (kI fun v1 M1 => ((0 : Int) ≤ w32 (x3 + 1) ∧ w32 (x3 + 1) < M1 32 0 0) ∧ ((0 : Int) ≤ w32 (x3 + 2) ∧ w32 (x3 + 2) < M1 32 0 0) ∧ Tq 245 0 [vR 22 0, vI (M1 32000 0 (w32 (x3 + 1))), vI (M1 32000 0 (w32 (x3 + 2))), vJ] [] M1 (kI fun v2 M2 => if v1 = v2 then Tq 0 78 [vR 32000 0, vR 1 0, vR 22 0, vI x3] [] M2 Q else Q (.inl (some (vI (nb 0)))) M2))) :=
  Tq_blk (is := bk_0_40) (dd := de_0) rfl rfl
/-- EarthOfficeLaw law block at 1803 -/
theorem t0_41 {x3 : Int} {M : Mem} {Q : AR → Mem → Prop} : Tq 0 41 [vR 32000 0, vR 1 0, vR 22 0, vI x3] [] M Q ↔ (((0 : Int) ≤ w32 (x3 + 1) ∧ w32 (x3 + 1) < M 32 0 0) ∧ ((0 : Int) ≤ w32 (x3 + 2) ∧ w32 (x3 + 2) < M 32 0 0) ∧ ((0 : Int) ≤ w32 (x3 + 3) ∧ w32 (x3 + 3) < M 32 0 0) ∧ ((0 : Int) ≤ w32 (x3 + 4) ∧ w32 (x3 + 4) < M 32 0 0) ∧ ((0 : Int) ≤ w32 (x3 + 5) ∧ w32 (x3 + 5) < M 32 0 0) ∧ if M 32000 0 (w32 (x3 + 5)) = 0 then Tq 0 42 [vR 32000 0, vR 1 0, vR 22 0, vI x3] [vI (M 32000 0 (w32 (x3 + 4))), vI (M 32000 0 (w32 (x3 + 3))), vI (M 32000 0 (w32 (x3 + 2))), vI (M 32000 0 (w32 (x3 + 1))), vR 1 0] M Q else Tq 0 43 [vR 32000 0, vR 1 0, vR 22 0, vI x3] [vI 1, vI (M 32000 0 (w32 (x3 + 4))), vI (M 32000 0 (w32 (x3 + 3))), vI (M 32000 0 (w32 (x3 + 2))), vI (M 32000 0 (w32 (x3 + 1))), vR 1 0] M Q) :=
  Tq_blk (is := bk_0_41) (dd := de_0) rfl rfl
/-- EarthOfficeLaw law block at 1836 -/
theorem t0_42 {x3 s0 s1 s2 s3 : Int} {M : Mem} {Q : AR → Mem → Prop} : Tq 0 42 [vR 32000 0, vR 1 0, vR 22 0, vI x3] [vI s0, vI s1, vI s2, vI s3, vR 1 0] M Q ↔ (Tq 0 43 [vR 32000 0, vR 1 0, vR 22 0, vI x3] [vI 0, vI s0, vI s1, vI s2, vI s3, vR 1 0] M Q) :=
  Tq_blk (is := bk_0_42) (dd := de_0) rfl rfl
/-- EarthOfficeLaw law block at 1837 -/
theorem t0_43 {x3 s0 s1 s2 s3 s4 : Int} {M : Mem} {Q : AR → Mem → Prop} : Tq 0 43 [vR 32000 0, vR 1 0, vR 22 0, vI x3] [vI s0, vI s1, vI s2, vI s3, vI s4, vR 1 0] M Q ↔ (Tq 79 0 [vR 1 0, vI s4, vI s3, vI s2, vI s1, vI s0] [] M (kI fun v1 M1 => ((0 : Int) ≤ w32 (x3 + 1) ∧ w32 (x3 + 1) < M1 32 0 0) ∧ ((0 : Int) ≤ w32 (x3 + 2) ∧ w32 (x3 + 2) < M1 32 0 0) ∧ ((0 : Int) ≤ w32 (x3 + 3) ∧ w32 (x3 + 3) < M1 32 0 0) ∧ ((0 : Int) ≤ w32 (x3 + 4) ∧ w32 (x3 + 4) < M1 32 0 0) ∧ ((0 : Int) ≤ w32 (x3 + 5) ∧ w32 (x3 + 5) < M1 32 0 0) ∧ if M1 32000 0 (w32 (x3 + 5)) = 0 then Tq 0 44 [vR 32000 0, vR 1 0, vR 22 0, vI x3] [vI (M1 32000 0 (w32 (x3 + 4))), vI (M1 32000 0 (w32 (x3 + 3))), vI (M1 32000 0 (w32 (x3 + 2))), vI (M1 32000 0 (w32 (x3 + 1))), vR 22 0, vI v1] M1 Q else Tq 0 45 [vR 32000 0, vR 1 0, vR 22 0, vI x3] [vI 1, vI (M1 32000 0 (w32 (x3 + 4))), vI (M1 32000 0 (w32 (x3 + 3))), vI (M1 32000 0 (w32 (x3 + 2))), vI (M1 32000 0 (w32 (x3 + 1))), vR 22 0, vI v1] M1 Q)) :=
  Tq_blk (is := bk_0_43) (dd := de_0) rfl rfl
/-- EarthOfficeLaw law block at 1873 -/
theorem t0_44 {x3 s0 s1 s2 s3 s5 : Int} {M : Mem} {Q : AR → Mem → Prop} : Tq 0 44 [vR 32000 0, vR 1 0, vR 22 0, vI x3] [vI s0, vI s1, vI s2, vI s3, vR 22 0, vI s5] M Q ↔ (Tq 0 45 [vR 32000 0, vR 1 0, vR 22 0, vI x3] [vI 0, vI s0, vI s1, vI s2, vI s3, vR 22 0, vI s5] M Q) :=
  Tq_blk (is := bk_0_44) (dd := de_0) rfl rfl
/-- EarthOfficeLaw law block at 1874 -/
theorem t0_45 {x3 s0 s1 s2 s3 s4 s6 : Int} {M : Mem} {Q : AR → Mem → Prop} : Tq 0 45 [vR 32000 0, vR 1 0, vR 22 0, vI x3] [vI s0, vI s1, vI s2, vI s3, vI s4, vR 22 0, vI s6] M Q ↔ (Tq 323 0 [vR 22 0, vI s4, vI s3, vI s2, vI s1, vI s0, vJ, vJ] [] M (kI fun v1 M1 => if s6 = v1 then Tq 0 78 [vR 32000 0, vR 1 0, vR 22 0, vI x3] [] M1 Q else Q (.inl (some (vI (nb 0)))) M1)) :=
  Tq_blk (is := bk_0_45) (dd := de_0) rfl rfl
/-- EarthOfficeLaw law block at 1882 -/
theorem t0_46 {x3 : Int} {M : Mem} {Q : AR → Mem → Prop} : Tq 0 46 [vR 32000 0, vR 1 0, vR 22 0, vI x3] [] M Q ↔ (((0 : Int) ≤ w32 (x3 + 1) ∧ w32 (x3 + 1) < M 32 0 0) ∧ ((0 : Int) ≤ w32 (x3 + 2) ∧ w32 (x3 + 2) < M 32 0 0) ∧ Tq 80 0 [vR 1 0, vI (M 32000 0 (w32 (x3 + 1))), vI (M 32000 0 (w32 (x3 + 2)))] [] M (kI fun v1 M1 => ((0 : Int) ≤ w32 (x3 + 1) ∧ w32 (x3 + 1) < M1 32 0 0) ∧ ((0 : Int) ≤ w32 (x3 + 2) ∧ w32 (x3 + 2) < M1 32 0 0) ∧ Tq 325 0 [vR 22 0, vI (M1 32000 0 (w32 (x3 + 1))), vI (M1 32000 0 (w32 (x3 + 2)))] [] M1 (kI fun v2 M2 => if v1 = v2 then Tq 0 78 [vR 32000 0, vR 1 0, vR 22 0, vI x3] [] M2 Q else Q (.inl (some (vI (nb 0)))) M2))) :=
  Tq_blk (is := bk_0_46) (dd := de_0) rfl rfl
/-- EarthOfficeLaw law block at 1915 -/
theorem t0_47 {x3 : Int} {M : Mem} {Q : AR → Mem → Prop} : Tq 0 47 [vR 32000 0, vR 1 0, vR 22 0, vI x3] [] M Q ↔ (((0 : Int) ≤ w32 (x3 + 1) ∧ w32 (x3 + 1) < M 32 0 0) ∧ ((0 : Int) ≤ w32 (x3 + 2) ∧ w32 (x3 + 2) < M 32 0 0) ∧ ((0 : Int) ≤ w32 (x3 + 3) ∧ w32 (x3 + 3) < M 32 0 0) ∧ Tq 81 0 [vR 1 0, vI (M 32000 0 (w32 (x3 + 1))), vI (M 32000 0 (w32 (x3 + 2))), vI (M 32000 0 (w32 (x3 + 3)))] [] M (kI fun v1 M1 => ((0 : Int) ≤ w32 (x3 + 1) ∧ w32 (x3 + 1) < M1 32 0 0) ∧ ((0 : Int) ≤ w32 (x3 + 2) ∧ w32 (x3 + 2) < M1 32 0 0) ∧ ((0 : Int) ≤ w32 (x3 + 3) ∧ w32 (x3 + 3) < M1 32 0 0) ∧ Tq 326 0 [vR 22 0, vI (M1 32000 0 (w32 (x3 + 1))), vI (M1 32000 0 (w32 (x3 + 2))), vI (M1 32000 0 (w32 (x3 + 3))), vJ] [] M1 (kI fun v2 M2 => if v1 = v2 then Tq 0 78 [vR 32000 0, vR 1 0, vR 22 0, vI x3] [] M2 Q else Q (.inl (some (vI (nb 0)))) M2))) :=
  Tq_blk (is := bk_0_47) (dd := de_0) rfl rfl
/-- EarthOfficeLaw law block at 1958 -/
theorem t0_48 {x3 : Int} {M : Mem} {Q : AR → Mem → Prop} : Tq 0 48 [vR 32000 0, vR 1 0, vR 22 0, vI x3] [] M Q ↔ (((0 : Int) ≤ w32 (x3 + 1) ∧ w32 (x3 + 1) < M 32 0 0) ∧ ((0 : Int) ≤ w32 (x3 + 2) ∧ w32 (x3 + 2) < M 32 0 0) ∧ ((0 : Int) ≤ w32 (x3 + 3) ∧ w32 (x3 + 3) < M 32 0 0) ∧ ((0 : Int) ≤ w32 (x3 + 4) ∧ w32 (x3 + 4) < M 32 0 0) ∧ ((0 : Int) ≤ w32 (x3 + 5) ∧ w32 (x3 + 5) < M 32 0 0) ∧ Tq 82 0 [vR 1 0, vI (M 32000 0 (w32 (x3 + 1))), vI (M 32000 0 (w32 (x3 + 2))), vI (M 32000 0 (w32 (x3 + 3))), vI (M 32000 0 (w32 (x3 + 4))), vI (M 32000 0 (w32 (x3 + 5)))] [] M (kI fun v1 M1 => ((0 : Int) ≤ w32 (x3 + 1) ∧ w32 (x3 + 1) < M1 32 0 0) ∧ ((0 : Int) ≤ w32 (x3 + 2) ∧ w32 (x3 + 2) < M1 32 0 0) ∧ ((0 : Int) ≤ w32 (x3 + 3) ∧ w32 (x3 + 3) < M1 32 0 0) ∧ ((0 : Int) ≤ w32 (x3 + 4) ∧ w32 (x3 + 4) < M1 32 0 0) ∧ ((0 : Int) ≤ w32 (x3 + 5) ∧ w32 (x3 + 5) < M1 32 0 0) ∧ Tq 328 0 [vR 22 0, vI (M1 32000 0 (w32 (x3 + 1))), vI (M1 32000 0 (w32 (x3 + 2))), vI (M1 32000 0 (w32 (x3 + 3))), vI (M1 32000 0 (w32 (x3 + 4))), vI (M1 32000 0 (w32 (x3 + 5))), vJ, vJ, vJ, vJ] [] M1 (kI fun v2 M2 => if v1 = v2 then Tq 0 78 [vR 32000 0, vR 1 0, vR 22 0, vI x3] [] M2 Q else Q (.inl (some (vI (nb 0)))) M2))) :=
  Tq_blk (is := bk_0_48) (dd := de_0) rfl rfl
/-- EarthOfficeLaw law block at 2021 -/
theorem t0_49 {x3 : Int} {M : Mem} {Q : AR → Mem → Prop} : Tq 0 49 [vR 32000 0, vR 1 0, vR 22 0, vI x3] [] M Q ↔ (((0 : Int) ≤ w32 (x3 + 1) ∧ w32 (x3 + 1) < M 32 0 0) ∧ Tq 83 0 [vR 1 0, vI (M 32000 0 (w32 (x3 + 1)))] [] M (kI fun v1 M1 => ((0 : Int) ≤ w32 (x3 + 1) ∧ w32 (x3 + 1) < M1 32 0 0) ∧ Tq 329 0 [vR 22 0, vI (M1 32000 0 (w32 (x3 + 1))), vJ, vJ, vJ] [] M1 (kI fun v2 M2 => if v1 = v2 then Tq 0 78 [vR 32000 0, vR 1 0, vR 22 0, vI x3] [] M2 Q else Q (.inl (some (vI (nb 0)))) M2))) :=
  Tq_blk (is := bk_0_49) (dd := de_0) rfl rfl
/-- EarthOfficeLaw law block at 2044 -/
theorem t0_50 {x3 : Int} {M : Mem} {Q : AR → Mem → Prop} : Tq 0 50 [vR 32000 0, vR 1 0, vR 22 0, vI x3] [] M Q ↔ (((0 : Int) ≤ w32 (x3 + 1) ∧ w32 (x3 + 1) < M 32 0 0) ∧ ((0 : Int) ≤ w32 (x3 + 2) ∧ w32 (x3 + 2) < M 32 0 0) ∧ ((0 : Int) ≤ w32 (x3 + 3) ∧ w32 (x3 + 3) < M 32 0 0) ∧ Tq 84 0 [vR 1 0, vI (M 32000 0 (w32 (x3 + 1))), vI (M 32000 0 (w32 (x3 + 2))), vI (M 32000 0 (w32 (x3 + 3)))] [] M (kI fun v1 M1 => ((0 : Int) ≤ w32 (x3 + 1) ∧ w32 (x3 + 1) < M1 32 0 0) ∧ ((0 : Int) ≤ w32 (x3 + 2) ∧ w32 (x3 + 2) < M1 32 0 0) ∧ ((0 : Int) ≤ w32 (x3 + 3) ∧ w32 (x3 + 3) < M1 32 0 0) ∧ Tq 332 0 [vR 22 0, vI (M1 32000 0 (w32 (x3 + 1))), vI (M1 32000 0 (w32 (x3 + 2))), vI (M1 32000 0 (w32 (x3 + 3))), vJ] [] M1 (kI fun v2 M2 => if v1 = v2 then Tq 0 78 [vR 32000 0, vR 1 0, vR 22 0, vI x3] [] M2 Q else Q (.inl (some (vI (nb 0)))) M2))) :=
  Tq_blk (is := bk_0_50) (dd := de_0) rfl rfl
/-- EarthOfficeLaw law block at 2087 -/
theorem t0_51 {x3 : Int} {M : Mem} {Q : AR → Mem → Prop} : Tq 0 51 [vR 32000 0, vR 1 0, vR 22 0, vI x3] [] M Q ↔ (Tq 85 0 [vR 1 0] [] M (kI fun v1 M1 => Tq 333 0 [vR 22 0, vJ, vJ] [] M1 (kI fun v2 M2 => if v1 = v2 then Tq 0 78 [vR 32000 0, vR 1 0, vR 22 0, vI x3] [] M2 Q else Q (.inl (some (vI (nb 0)))) M2))) :=
  Tq_blk (is := bk_0_51) (dd := de_0) rfl rfl
/-- EarthOfficeLaw law block at 2100 -/
theorem t0_52 {x3 : Int} {M : Mem} {Q : AR → Mem → Prop} : Tq 0 52 [vR 32000 0, vR 1 0, vR 22 0, vI x3] [] M Q ↔ (((0 : Int) ≤ w32 (x3 + 1) ∧ w32 (x3 + 1) < M 32 0 0) ∧ ((0 : Int) ≤ w32 (x3 + 2) ∧ w32 (x3 + 2) < M 32 0 0) ∧ ((0 : Int) ≤ w32 (x3 + 3) ∧ w32 (x3 + 3) < M 32 0 0) ∧ ((0 : Int) ≤ w32 (x3 + 4) ∧ w32 (x3 + 4) < M 32 0 0) ∧ Tq 86 0 [vR 1 0, vI (M 32000 0 (w32 (x3 + 1))), vI (M 32000 0 (w32 (x3 + 2))), vI (M 32000 0 (w32 (x3 + 3))), vI (M 32000 0 (w32 (x3 + 4)))] [] M (kI fun v1 M1 => ((0 : Int) ≤ w32 (x3 + 1) ∧ w32 (x3 + 1) < M1 32 0 0) ∧ ((0 : Int) ≤ w32 (x3 + 2) ∧ w32 (x3 + 2) < M1 32 0 0) ∧ ((0 : Int) ≤ w32 (x3 + 3) ∧ w32 (x3 + 3) < M1 32 0 0) ∧ ((0 : Int) ≤ w32 (x3 + 4) ∧ w32 (x3 + 4) < M1 32 0 0) ∧ Tq 334 0 [vR 22 0, vI (M1 32000 0 (w32 (x3 + 1))), vI (M1 32000 0 (w32 (x3 + 2))), vI (M1 32000 0 (w32 (x3 + 3))), vI (M1 32000 0 (w32 (x3 + 4))), vJ, vJ] [] M1 (kI fun v2 M2 => if v1 = v2 then Tq 0 78 [vR 32000 0, vR 1 0, vR 22 0, vI x3] [] M2 Q else Q (.inl (some (vI (nb 0)))) M2))) :=
  Tq_blk (is := bk_0_52) (dd := de_0) rfl rfl
/-- EarthOfficeLaw law block at 2153 -/
theorem t0_53 {x3 : Int} {M : Mem} {Q : AR → Mem → Prop} : Tq 0 53 [vR 32000 0, vR 1 0, vR 22 0, vI x3] [] M Q ↔ (Tq 87 0 [vR 1 0, vJ, vJ, vJ] [] M (kI fun v1 M1 => Tq 220 0 [vR 22 0, vJ, vJ, vJ] [] M1 (kI fun v2 M2 => if v1 = v2 then Tq 0 78 [vR 32000 0, vR 1 0, vR 22 0, vI x3] [] M2 Q else Q (.inl (some (vI (nb 0)))) M2))) :=
  Tq_blk (is := bk_0_53) (dd := de_0) rfl rfl
/-- EarthOfficeLaw law block at 2166 -/
theorem t0_54 {x3 : Int} {M : Mem} {Q : AR → Mem → Prop} : Tq 0 54 [vR 32000 0, vR 1 0, vR 22 0, vI x3] [] M Q ↔ (((0 : Int) ≤ w32 (x3 + 1) ∧ w32 (x3 + 1) < M 32 0 0) ∧ ((0 : Int) ≤ w32 (x3 + 2) ∧ w32 (x3 + 2) < M 32 0 0) ∧ Tq 88 0 [vR 1 0, vI (M 32000 0 (w32 (x3 + 1))), vI (M 32000 0 (w32 (x3 + 2))), vJ] [] M (kI fun v1 M1 => ((0 : Int) ≤ w32 (x3 + 1) ∧ w32 (x3 + 1) < M1 32 0 0) ∧ ((0 : Int) ≤ w32 (x3 + 2) ∧ w32 (x3 + 2) < M1 32 0 0) ∧ Tq 336 0 [vR 22 0, vI (M1 32000 0 (w32 (x3 + 1))), vI (M1 32000 0 (w32 (x3 + 2)))] [] M1 (kI fun v2 M2 => if v1 = v2 then Tq 0 78 [vR 32000 0, vR 1 0, vR 22 0, vI x3] [] M2 Q else Q (.inl (some (vI (nb 0)))) M2))) :=
  Tq_blk (is := bk_0_54) (dd := de_0) rfl rfl
/-- EarthOfficeLaw law block at 2199 -/
theorem t0_55 {x3 : Int} {M : Mem} {Q : AR → Mem → Prop} : Tq 0 55 [vR 32000 0, vR 1 0, vR 22 0, vI x3] [] M Q ↔ (((0 : Int) ≤ w32 (x3 + 1) ∧ w32 (x3 + 1) < M 32 0 0) ∧ ((0 : Int) ≤ w32 (x3 + 2) ∧ w32 (x3 + 2) < M 32 0 0) ∧ ((0 : Int) ≤ w32 (x3 + 3) ∧ w32 (x3 + 3) < M 32 0 0) ∧ ((0 : Int) ≤ w32 (x3 + 4) ∧ w32 (x3 + 4) < M 32 0 0) ∧ ((0 : Int) ≤ w32 (x3 + 5) ∧ w32 (x3 + 5) < M 32 0 0) ∧ if M 32000 0 (w32 (x3 + 5)) = 0 then Tq 0 56 [vR 32000 0, vR 1 0, vR 22 0, vI x3] [vI (M 32000 0 (w32 (x3 + 4))), vI (M 32000 0 (w32 (x3 + 3))), vI (M 32000 0 (w32 (x3 + 2))), vI (M 32000 0 (w32 (x3 + 1))), vR 1 0] M Q else Tq 0 57 [vR 32000 0, vR 1 0, vR 22 0, vI x3] [vI 1, vI (M 32000 0 (w32 (x3 + 4))), vI (M 32000 0 (w32 (x3 + 3))), vI (M 32000 0 (w32 (x3 + 2))), vI (M 32000 0 (w32 (x3 + 1))), vR 1 0] M Q) :=
  Tq_blk (is := bk_0_55) (dd := de_0) rfl rfl
/-- EarthOfficeLaw law block at 2232 -/
theorem t0_56 {x3 s0 s1 s2 s3 : Int} {M : Mem} {Q : AR → Mem → Prop} : Tq 0 56 [vR 32000 0, vR 1 0, vR 22 0, vI x3] [vI s0, vI s1, vI s2, vI s3, vR 1 0] M Q ↔ (Tq 0 57 [vR 32000 0, vR 1 0, vR 22 0, vI x3] [vI 0, vI s0, vI s1, vI s2, vI s3, vR 1 0] M Q) :=
  Tq_blk (is := bk_0_56) (dd := de_0) rfl rfl
/-- EarthOfficeLaw law block at 2233 -/
theorem t0_57 {x3 s0 s1 s2 s3 s4 : Int} {M : Mem} {Q : AR → Mem → Prop} : Tq 0 57 [vR 32000 0, vR 1 0, vR 22 0, vI x3] [vI s0, vI s1, vI s2, vI s3, vI s4, vR 1 0] M Q ↔ (Tq 89 0 [vR 1 0, vI s4, vI s3, vI s2, vI s1, vI s0] [] M (kI fun v1 M1 => ((0 : Int) ≤ w32 (x3 + 1) ∧ w32 (x3 + 1) < M1 32 0 0) ∧ ((0 : Int) ≤ w32 (x3 + 2) ∧ w32 (x3 + 2) < M1 32 0 0) ∧ ((0 : Int) ≤ w32 (x3 + 3) ∧ w32 (x3 + 3) < M1 32 0 0) ∧ ((0 : Int) ≤ w32 (x3 + 4) ∧ w32 (x3 + 4) < M1 32 0 0) ∧ ((0 : Int) ≤ w32 (x3 + 5) ∧ w32 (x3 + 5) < M1 32 0 0) ∧ if M1 32000 0 (w32 (x3 + 5)) = 0 then Tq 0 58 [vR 32000 0, vR 1 0, vR 22 0, vI x3] [vI (M1 32000 0 (w32 (x3 + 4))), vI (M1 32000 0 (w32 (x3 + 3))), vI (M1 32000 0 (w32 (x3 + 2))), vI (M1 32000 0 (w32 (x3 + 1))), vR 22 0, vI v1] M1 Q else Tq 0 59 [vR 32000 0, vR 1 0, vR 22 0, vI x3] [vI 1, vI (M1 32000 0 (w32 (x3 + 4))), vI (M1 32000 0 (w32 (x3 + 3))), vI (M1 32000 0 (w32 (x3 + 2))), vI (M1 32000 0 (w32 (x3 + 1))), vR 22 0, vI v1] M1 Q)) :=
  Tq_blk (is := bk_0_57) (dd := de_0) rfl rfl
/-- EarthOfficeLaw law block at 2269 -/
theorem t0_58 {x3 s0 s1 s2 s3 s5 : Int} {M : Mem} {Q : AR → Mem → Prop} : Tq 0 58 [vR 32000 0, vR 1 0, vR 22 0, vI x3] [vI s0, vI s1, vI s2, vI s3, vR 22 0, vI s5] M Q ↔ (Tq 0 59 [vR 32000 0, vR 1 0, vR 22 0, vI x3] [vI 0, vI s0, vI s1, vI s2, vI s3, vR 22 0, vI s5] M Q) :=
  Tq_blk (is := bk_0_58) (dd := de_0) rfl rfl
/-- EarthOfficeLaw law block at 2270 -/
theorem t0_59 {x3 s0 s1 s2 s3 s4 s6 : Int} {M : Mem} {Q : AR → Mem → Prop} : Tq 0 59 [vR 32000 0, vR 1 0, vR 22 0, vI x3] [vI s0, vI s1, vI s2, vI s3, vI s4, vR 22 0, vI s6] M Q ↔ (Tq 254 0 [vR 22 0, vI s4, vI s3, vI s2, vI s1, vI s0] [] M (kI fun v1 M1 => if s6 = v1 then Tq 0 78 [vR 32000 0, vR 1 0, vR 22 0, vI x3] [] M1 Q else Q (.inl (some (vI (nb 0)))) M1)) :=
  Tq_blk (is := bk_0_59) (dd := de_0) rfl rfl
/-- EarthOfficeLaw law block at 2278 -/
theorem t0_60 {x3 : Int} {M : Mem} {Q : AR → Mem → Prop} : Tq 0 60 [vR 32000 0, vR 1 0, vR 22 0, vI x3] [] M Q ↔ (((0 : Int) ≤ w32 (x3 + 1) ∧ w32 (x3 + 1) < M 32 0 0) ∧ ((0 : Int) ≤ w32 (x3 + 2) ∧ w32 (x3 + 2) < M 32 0 0) ∧ if M 32000 0 (w32 (x3 + 2)) = 0 then Tq 0 61 [vR 32000 0, vR 1 0, vR 22 0, vI x3] [vI (M 32000 0 (w32 (x3 + 1))), vR 1 0] M Q else Tq 0 62 [vR 32000 0, vR 1 0, vR 22 0, vI x3] [vI 1, vI (M 32000 0 (w32 (x3 + 1))), vR 1 0] M Q) :=
  Tq_blk (is := bk_0_60) (dd := de_0) rfl rfl
/-- EarthOfficeLaw law block at 2296 -/
theorem t0_61 {x3 s0 : Int} {M : Mem} {Q : AR → Mem → Prop} : Tq 0 61 [vR 32000 0, vR 1 0, vR 22 0, vI x3] [vI s0, vR 1 0] M Q ↔ (Tq 0 62 [vR 32000 0, vR 1 0, vR 22 0, vI x3] [vI 0, vI s0, vR 1 0] M Q) :=
  Tq_blk (is := bk_0_61) (dd := de_0) rfl rfl
/-- EarthOfficeLaw law block at 2297 -/
theorem t0_62 {x3 s0 s1 : Int} {M : Mem} {Q : AR → Mem → Prop} : Tq 0 62 [vR 32000 0, vR 1 0, vR 22 0, vI x3] [vI s0, vI s1, vR 1 0] M Q ↔ (Tq 90 0 [vR 1 0, vI s1, vI s0, vJ] [] M (kI fun v1 M1 => ((0 : Int) ≤ w32 (x3 + 1) ∧ w32 (x3 + 1) < M1 32 0 0) ∧ ((0 : Int) ≤ w32 (x3 + 2) ∧ w32 (x3 + 2) < M1 32 0 0) ∧ if M1 32000 0 (w32 (x3 + 2)) = 0 then Tq 0 63 [vR 32000 0, vR 1 0, vR 22 0, vI x3] [vI (M1 32000 0 (w32 (x3 + 1))), vR 22 0, vI v1] M1 Q else Tq 0 64 [vR 32000 0, vR 1 0, vR 22 0, vI x3] [vI 1, vI (M1 32000 0 (w32 (x3 + 1))), vR 22 0, vI v1] M1 Q)) :=
  Tq_blk (is := bk_0_62) (dd := de_0) rfl rfl
/-- EarthOfficeLaw law block at 2318 -/
theorem t0_63 {x3 s0 s2 : Int} {M : Mem} {Q : AR → Mem → Prop} : Tq 0 63 [vR 32000 0, vR 1 0, vR 22 0, vI x3] [vI s0, vR 22 0, vI s2] M Q ↔ (Tq 0 64 [vR 32000 0, vR 1 0, vR 22 0, vI x3] [vI 0, vI s0, vR 22 0, vI s2] M Q) :=
  Tq_blk (is := bk_0_63) (dd := de_0) rfl rfl
/-- EarthOfficeLaw law block at 2319 -/
theorem t0_64 {x3 s0 s1 s3 : Int} {M : Mem} {Q : AR → Mem → Prop} : Tq 0 64 [vR 32000 0, vR 1 0, vR 22 0, vI x3] [vI s0, vI s1, vR 22 0, vI s3] M Q ↔ (Tq 255 0 [vR 22 0, vI s1, vI s0, vJ] [] M (kI fun v1 M1 => if s3 = v1 then Tq 0 78 [vR 32000 0, vR 1 0, vR 22 0, vI x3] [] M1 Q else Q (.inl (some (vI (nb 0)))) M1)) :=
  Tq_blk (is := bk_0_64) (dd := de_0) rfl rfl
/-- EarthOfficeLaw law block at 2327 -/
theorem t0_65 {x3 : Int} {M : Mem} {Q : AR → Mem → Prop} : Tq 0 65 [vR 32000 0, vR 1 0, vR 22 0, vI x3] [] M Q ↔ (((0 : Int) ≤ w32 (x3 + 1) ∧ w32 (x3 + 1) < M 32 0 0) ∧ if M 32000 0 (w32 (x3 + 1)) = 0 then Tq 0 66 [vR 32000 0, vR 1 0, vR 22 0, vI x3] [vR 1 0] M Q else Tq 0 67 [vR 32000 0, vR 1 0, vR 22 0, vI x3] [vI 1, vR 1 0] M Q) :=
  Tq_blk (is := bk_0_65) (dd := de_0) rfl rfl
/-- EarthOfficeLaw law block at 2340 -/
theorem t0_66 {x3 : Int} {M : Mem} {Q : AR → Mem → Prop} : Tq 0 66 [vR 32000 0, vR 1 0, vR 22 0, vI x3] [vR 1 0] M Q ↔ (Tq 0 67 [vR 32000 0, vR 1 0, vR 22 0, vI x3] [vI 0, vR 1 0] M Q) :=
  Tq_blk (is := bk_0_66) (dd := de_0) rfl rfl
/-- EarthOfficeLaw law block at 2341 -/
theorem t0_67 {x3 s0 : Int} {M : Mem} {Q : AR → Mem → Prop} : Tq 0 67 [vR 32000 0, vR 1 0, vR 22 0, vI x3] [vI s0, vR 1 0] M Q ↔ (Tq 92 0 [vR 1 0, vI s0, vJ] [] M (kI fun v1 M1 => ((0 : Int) ≤ w32 (x3 + 1) ∧ w32 (x3 + 1) < M1 32 0 0) ∧ if M1 32000 0 (w32 (x3 + 1)) = 0 then Tq 0 68 [vR 32000 0, vR 1 0, vR 22 0, vI x3] [vR 22 0, vI v1] M1 Q else Tq 0 69 [vR 32000 0, vR 1 0, vR 22 0, vI x3] [vI 1, vR 22 0, vI v1] M1 Q)) :=
  Tq_blk (is := bk_0_67) (dd := de_0) rfl rfl
/-- EarthOfficeLaw law block at 2357 -/
theorem t0_68 {x3 s1 : Int} {M : Mem} {Q : AR → Mem → Prop} : Tq 0 68 [vR 32000 0, vR 1 0, vR 22 0, vI x3] [vR 22 0, vI s1] M Q ↔ (Tq 0 69 [vR 32000 0, vR 1 0, vR 22 0, vI x3] [vI 0, vR 22 0, vI s1] M Q) :=
  Tq_blk (is := bk_0_68) (dd := de_0) rfl rfl
/-- EarthOfficeLaw law block at 2358 -/
theorem t0_69 {x3 s0 s2 : Int} {M : Mem} {Q : AR → Mem → Prop} : Tq 0 69 [vR 32000 0, vR 1 0, vR 22 0, vI x3] [vI s0, vR 22 0, vI s2] M Q ↔ (Tq 256 0 [vR 22 0, vI s0, vJ] [] M (kI fun v1 M1 => if s2 = v1 then Tq 0 78 [vR 32000 0, vR 1 0, vR 22 0, vI x3] [] M1 Q else Q (.inl (some (vI (nb 0)))) M1)) :=
  Tq_blk (is := bk_0_69) (dd := de_0) rfl rfl
/-- EarthOfficeLaw law block at 2366 -/
theorem t0_70 {x3 : Int} {M : Mem} {Q : AR → Mem → Prop} : Tq 0 70 [vR 32000 0, vR 1 0, vR 22 0, vI x3] [] M Q ↔ (((0 : Int) ≤ w32 (x3 + 1) ∧ w32 (x3 + 1) < M 32 0 0) ∧ Tq 93 0 [vR 1 0, vI (M 32000 0 (w32 (x3 + 1))), vJ] [] M (kI fun v1 M1 => ((0 : Int) ≤ w32 (x3 + 1) ∧ w32 (x3 + 1) < M1 32 0 0) ∧ Tq 257 0 [vR 22 0, vI (M1 32000 0 (w32 (x3 + 1))), vJ, vJ] [] M1 (kI fun v2 M2 => if v1 = v2 then Tq 0 78 [vR 32000 0, vR 1 0, vR 22 0, vI x3] [] M2 Q else Q (.inl (some (vI (nb 0)))) M2))) :=
  Tq_blk (is := bk_0_70) (dd := de_0) rfl rfl
/-- EarthOfficeLaw law block at 2389 -/
theorem t0_71 {x3 : Int} {M : Mem} {Q : AR → Mem → Prop} : Tq 0 71 [vR 32000 0, vR 1 0, vR 22 0, vI x3] [] M Q ↔ (((0 : Int) ≤ w32 (x3 + 1) ∧ w32 (x3 + 1) < M 32 0 0) ∧ Tq 94 0 [vR 1 0, vI (M 32000 0 (w32 (x3 + 1)))] [] M (kI fun v1 M1 => ((0 : Int) ≤ w32 (x3 + 1) ∧ w32 (x3 + 1) < M1 32 0 0) ∧ Tq 268 0 [vR 22 0, vI (M1 32000 0 (w32 (x3 + 1)))] [] M1 (kI fun v2 M2 => if v1 = v2 then Tq 0 78 [vR 32000 0, vR 1 0, vR 22 0, vI x3] [] M2 Q else Q (.inl (some (vI (nb 0)))) M2))) :=
  Tq_blk (is := bk_0_71) (dd := de_0) rfl rfl
/-- EarthOfficeLaw law block at 2412 -/
theorem t0_72 {x3 : Int} {M : Mem} {Q : AR → Mem → Prop} : Tq 0 72 [vR 32000 0, vR 1 0, vR 22 0, vI x3] [] M Q ↔ (((0 : Int) ≤ w32 (x3 + 1) ∧ w32 (x3 + 1) < M 32 0 0) ∧ ((0 : Int) ≤ w32 (x3 + 2) ∧ w32 (x3 + 2) < M 32 0 0) ∧ Tq 96 0 [vR 1 0, vI (M 32000 0 (w32 (x3 + 1))), vI (M 32000 0 (w32 (x3 + 2)))] [] M (kI fun v1 M1 => ((0 : Int) ≤ w32 (x3 + 1) ∧ w32 (x3 + 1) < M1 32 0 0) ∧ ((0 : Int) ≤ w32 (x3 + 2) ∧ w32 (x3 + 2) < M1 32 0 0) ∧ Tq 337 0 [vR 22 0, vI (M1 32000 0 (w32 (x3 + 1))), vI (M1 32000 0 (w32 (x3 + 2)))] [] M1 (kI fun v2 M2 => if v1 = v2 then Tq 0 78 [vR 32000 0, vR 1 0, vR 22 0, vI x3] [] M2 Q else Q (.inl (some (vI (nb 0)))) M2))) :=
  Tq_blk (is := bk_0_72) (dd := de_0) rfl rfl
/-- EarthOfficeLaw law block at 2445 -/
theorem t0_73 {x3 : Int} {M : Mem} {Q : AR → Mem → Prop} : Tq 0 73 [vR 32000 0, vR 1 0, vR 22 0, vI x3] [] M Q ↔ (((0 : Int) ≤ w32 (x3 + 1) ∧ w32 (x3 + 1) < M 32 0 0) ∧ ((0 : Int) ≤ w32 (x3 + 2) ∧ w32 (x3 + 2) < M 32 0 0) ∧ Tq 97 0 [vR 1 0, vI (M 32000 0 (w32 (x3 + 1))), vI (M 32000 0 (w32 (x3 + 2)))] [] M (kI fun v1 M1 => ((0 : Int) ≤ w32 (x3 + 1) ∧ w32 (x3 + 1) < M1 32 0 0) ∧ ((0 : Int) ≤ w32 (x3 + 2) ∧ w32 (x3 + 2) < M1 32 0 0) ∧ Tq 338 0 [vR 22 0, vI (M1 32000 0 (w32 (x3 + 1))), vI (M1 32000 0 (w32 (x3 + 2)))] [] M1 (kI fun v2 M2 => if v1 = v2 then Tq 0 78 [vR 32000 0, vR 1 0, vR 22 0, vI x3] [] M2 Q else Q (.inl (some (vI (nb 0)))) M2))) :=
  Tq_blk (is := bk_0_73) (dd := de_0) rfl rfl
/-- EarthOfficeLaw law block at 2478 -/
theorem t0_74 {x3 : Int} {M : Mem} {Q : AR → Mem → Prop} : Tq 0 74 [vR 32000 0, vR 1 0, vR 22 0, vI x3] [] M Q ↔ (((0 : Int) ≤ w32 (x3 + 1) ∧ w32 (x3 + 1) < M 32 0 0) ∧ Tq 98 0 [vR 1 0, vI (M 32000 0 (w32 (x3 + 1)))] [] M (kI fun v1 M1 => ((0 : Int) ≤ w32 (x3 + 1) ∧ w32 (x3 + 1) < M1 32 0 0) ∧ Tq 339 0 [vR 22 0, vI (M1 32000 0 (w32 (x3 + 1))), vJ, vJ] [] M1 (kI fun v2 M2 => if v1 = v2 then Tq 0 78 [vR 32000 0, vR 1 0, vR 22 0, vI x3] [] M2 Q else Q (.inl (some (vI (nb 0)))) M2))) :=
  Tq_blk (is := bk_0_74) (dd := de_0) rfl rfl
/-- EarthOfficeLaw law block at 2501 -/
theorem t0_75 {x3 : Int} {M : Mem} {Q : AR → Mem → Prop} : Tq 0 75 [vR 32000 0, vR 1 0, vR 22 0, vI x3] [] M Q ↔ (((0 : Int) ≤ w32 (x3 + 1) ∧ w32 (x3 + 1) < M 32 0 0) ∧ Tq 99 0 [vR 1 0, vI (M 32000 0 (w32 (x3 + 1))), vJ, vJ, vJ, vJ] [] M (kI fun v1 M1 => ((0 : Int) ≤ w32 (x3 + 1) ∧ w32 (x3 + 1) < M1 32 0 0) ∧ Tq 191 0 [vR 22 0, vI (M1 32000 0 (w32 (x3 + 1))), vJ, vJ, vJ, vJ] [] M1 (kI fun v2 M2 => if v1 = v2 then Tq 0 78 [vR 32000 0, vR 1 0, vR 22 0, vI x3] [] M2 Q else Q (.inl (some (vI (nb 0)))) M2))) :=
  Tq_blk (is := bk_0_75) (dd := de_0) rfl rfl
/-- EarthOfficeLaw law block at 2524 -/
theorem t0_76 {x3 : Int} {M : Mem} {Q : AR → Mem → Prop} : Tq 0 76 [vR 32000 0, vR 1 0, vR 22 0, vI x3] [] M Q ↔ (((0 : Int) ≤ w32 (x3 + 1) ∧ w32 (x3 + 1) < M 32 0 0) ∧ Tq 100 0 [vR 1 0, vI (M 32000 0 (w32 (x3 + 1)))] [] M (kI fun v1 M1 => ((0 : Int) ≤ w32 (x3 + 1) ∧ w32 (x3 + 1) < M1 32 0 0) ∧ Tq 190 0 [vR 22 0, vI (M1 32000 0 (w32 (x3 + 1)))] [] M1 (kI fun v2 M2 => if v1 = v2 then Tq 0 78 [vR 32000 0, vR 1 0, vR 22 0, vI x3] [] M2 Q else Q (.inl (some (vI (nb 0)))) M2))) :=
  Tq_blk (is := bk_0_76) (dd := de_0) rfl rfl
/-- EarthOfficeLaw law block at 2547 -/
theorem t0_77 {x3 : Int} {M : Mem} {Q : AR → Mem → Prop} : Tq 0 77 [vR 32000 0, vR 1 0, vR 22 0, vI x3] [] M Q ↔ (((0 : Int) ≤ w32 (x3 + 1) ∧ w32 (x3 + 1) < M 32 0 0) ∧ Tq 101 0 [vR 1 0, vI (M 32000 0 (w32 (x3 + 1)))] [] M (kI fun v1 M1 => ((0 : Int) ≤ w32 (x3 + 1) ∧ w32 (x3 + 1) < M1 32 0 0) ∧ Tq 340 0 [vR 22 0, vI (M1 32000 0 (w32 (x3 + 1)))] [] M1 (kI fun v2 M2 => if v1 = v2 then Tq 0 78 [vR 32000 0, vR 1 0, vR 22 0, vI x3] [] M2 Q else Q (.inl (some (vI (nb 0)))) M2))) :=
  Tq_blk (is := bk_0_77) (dd := de_0) rfl rfl
/-- EarthOfficeLaw law block at 2570 -/
theorem t0_78 {x3 : Int} {M : Mem} {Q : AR → Mem → Prop} : Tq 0 78 [vR 32000 0, vR 1 0, vR 22 0, vI x3] [] M Q ↔ (Tq 0 1 [vR 32000 0, vR 1 0, vR 22 0, vI (w32 (x3 + 8))] [] M Q) :=
  Tq_blk (is := bk_0_78) (dd := de_0) rfl rfl
/-- EarthOfficeLaw law block at 2576 -/
theorem t0_79 {M : Mem} {Q : AR → Mem → Prop} : Tq 0 79 [vJ, vJ, vJ, vJ] [] M Q ↔ (Q (.inl (some (vI (nb 1)))) M) :=
  Tq_blk (is := bk_0_79) (dd := de_0) rfl rfl
/-- java/util/Arrays fill block at 0 -/
theorem t1_0 {x1 x2 x3 : Int} {M : Mem} {Q : AR → Mem → Prop} : Tq 1 0 [vR 3000 0, vI x1, vI x2, vI x3, vJ] [] M Q ↔ (Tq 2 0 [vI 32, vI x1, vI x2] [] M (kV fun M1 => Tq 1 1 [vR 3000 0, vJ, vI x2, vI x3, vI x1] [] M1 Q)) :=
  Tq_blk (is := bk_1_0) (dd := de_1) rfl rfl
/-- java/util/Arrays fill block at 10 -/
theorem t1_1 {x2 x3 x4 : Int} {M : Mem} {Q : AR → Mem → Prop} : Tq 1 1 [vR 3000 0, vJ, vI x2, vI x3, vI x4] [] M Q ↔ (if x2 ≤ x4 then Tq 1 2 [vJ, vJ, vJ, vJ, vJ] [] M Q else ((0 : Int) ≤ x4 ∧ x4 < 32) ∧ bd (mset M 3000 0 x4 x3) fun M1 => Tq 1 1 [vR 3000 0, vJ, vI x2, vI x3, vI (w32 (x4 + 1))] [] M1 Q) :=
  Tq_blk (is := bk_1_1) (dd := de_1) rfl rfl
/-- java/util/Arrays fill block at 27 -/
theorem t1_2 {M : Mem} {Q : AR → Mem → Prop} : Tq 1 2 [vJ, vJ, vJ, vJ, vJ] [] M Q ↔ (Q (.inl none) M) :=
  Tq_blk (is := bk_1_2) (dd := de_1) rfl rfl
/-- java/util/Arrays rangeCheck block at 0 -/
theorem t2_0 {x0 x1 x2 : Int} {M : Mem} {Q : AR → Mem → Prop} : Tq 2 0 [vI x0, vI x1, vI x2] [] M Q ↔ (if x1 ≤ x2 then Tq 2 1 [vI x0, vI x1, vI x2] [] M Q else False) :=
  Tq_blk (is := bk_2_0) (dd := de_2) rfl rfl
/-- java/util/Arrays rangeCheck block at 46 -/
theorem t2_1 {x0 x1 x2 : Int} {M : Mem} {Q : AR → Mem → Prop} : Tq 2 1 [vI x0, vI x1, vI x2] [] M Q ↔ (if 0 ≤ x1 then Tq 2 2 [vI x0, vJ, vI x2] [] M Q else False) :=
  Tq_blk (is := bk_2_1) (dd := de_2) rfl rfl
/-- java/util/Arrays rangeCheck block at 59 -/
theorem t2_2 {x0 x2 : Int} {M : Mem} {Q : AR → Mem → Prop} : Tq 2 2 [vI x0, vJ, vI x2] [] M Q ↔ (if x2 ≤ x0 then Tq 2 3 [vJ, vJ, vJ] [] M Q else False) :=
  Tq_blk (is := bk_2_2) (dd := de_2) rfl rfl
/-- java/util/Arrays rangeCheck block at 73 -/
theorem t2_3 {M : Mem} {Q : AR → Mem → Prop} : Tq 2 3 [vJ, vJ, vJ] [] M Q ↔ (Q (.inl none) M) :=
  Tq_blk (is := bk_2_3) (dd := de_2) rfl rfl
/-- java/util/Arrays fill block at 0 -/
theorem t3_0_3001 {x1 : Int} {M : Mem} {Q : AR → Mem → Prop} : Tq 3 0 [vR 3001 0, vI x1, vJ, vJ] [] M Q ↔ (Tq 3 1 [vR 3001 0, vI x1, vI 0, vI 1440] [] M Q) :=
  Tq_blk (is := bk_3_0) (dd := de_3) rfl rfl
/-- java/util/Arrays fill block at 5 -/
theorem t3_1_3001 {x1 x2 x3 : Int} {M : Mem} {Q : AR → Mem → Prop} : Tq 3 1 [vR 3001 0, vI x1, vI x2, vI x3] [] M Q ↔ (if x3 ≤ x2 then Tq 3 2 [vJ, vJ, vJ, vJ] [] M Q else ((0 : Int) ≤ x2 ∧ x2 < 1440) ∧ bd (mset M 3001 0 x2 x1) fun M1 => Tq 3 1 [vR 3001 0, vI x1, vI (w32 (x2 + 1)), vI x3] [] M1 Q) :=
  Tq_blk (is := bk_3_1) (dd := de_3) rfl rfl
/-- java/util/Arrays fill block at 20 -/
theorem t3_2_3001 {M : Mem} {Q : AR → Mem → Prop} : Tq 3 2 [vJ, vJ, vJ, vJ] [] M Q ↔ (Q (.inl none) M) :=
  Tq_blk (is := bk_3_2) (dd := de_3) rfl rfl
/-- java/util/Arrays fill block at 0 -/
theorem t3_0_12003 {x0 x1 : Int} {M : Mem} {Q : AR → Mem → Prop} : Tq 3 0 [vR 12003 x0, vI x1, vJ, vJ] [] M Q ↔ (Tq 3 1 [vR 12003 x0, vI x1, vI 0, vI 60] [] M Q) :=
  Tq_blk (is := bk_3_0) (dd := de_3) rfl rfl
/-- java/util/Arrays fill block at 5 -/
theorem t3_1_12003 {x0 x1 x2 x3 : Int} {M : Mem} {Q : AR → Mem → Prop} : Tq 3 1 [vR 12003 x0, vI x1, vI x2, vI x3] [] M Q ↔ (if x3 ≤ x2 then Tq 3 2 [vJ, vJ, vJ, vJ] [] M Q else ((0 : Int) ≤ x2 ∧ x2 < 60) ∧ bd (mset M 12003 x0 x2 x1) fun M1 => Tq 3 1 [vR 12003 x0, vI x1, vI (w32 (x2 + 1)), vI x3] [] M1 Q) :=
  Tq_blk (is := bk_3_1) (dd := de_3) rfl rfl
/-- java/util/Arrays fill block at 20 -/
theorem t3_2_12003 {M : Mem} {Q : AR → Mem → Prop} : Tq 3 2 [vJ, vJ, vJ, vJ] [] M Q ↔ (Q (.inl none) M) :=
  Tq_blk (is := bk_3_2) (dd := de_3) rfl rfl
/-- java/util/Arrays fill block at 0 -/
theorem t3_0_16001 {x0 x1 : Int} {M : Mem} {Q : AR → Mem → Prop} : Tq 3 0 [vR 16001 x0, vI x1, vJ, vJ] [] M Q ↔ (Tq 3 1 [vR 16001 x0, vI x1, vI 0, vI 10] [] M Q) :=
  Tq_blk (is := bk_3_0) (dd := de_3) rfl rfl
/-- java/util/Arrays fill block at 5 -/
theorem t3_1_16001 {x0 x1 x2 x3 : Int} {M : Mem} {Q : AR → Mem → Prop} : Tq 3 1 [vR 16001 x0, vI x1, vI x2, vI x3] [] M Q ↔ (if x3 ≤ x2 then Tq 3 2 [vJ, vJ, vJ, vJ] [] M Q else ((0 : Int) ≤ x2 ∧ x2 < 10) ∧ bd (mset M 16001 x0 x2 x1) fun M1 => Tq 3 1 [vR 16001 x0, vI x1, vI (w32 (x2 + 1)), vI x3] [] M1 Q) :=
  Tq_blk (is := bk_3_1) (dd := de_3) rfl rfl
/-- java/util/Arrays fill block at 20 -/
theorem t3_2_16001 {M : Mem} {Q : AR → Mem → Prop} : Tq 3 2 [vJ, vJ, vJ, vJ] [] M Q ↔ (Q (.inl none) M) :=
  Tq_blk (is := bk_3_2) (dd := de_3) rfl rfl
/-- java/util/Arrays fill block at 0 -/
theorem t3_0_16002 {x0 x1 : Int} {M : Mem} {Q : AR → Mem → Prop} : Tq 3 0 [vR 16002 x0, vI x1, vJ, vJ] [] M Q ↔ (Tq 3 1 [vR 16002 x0, vI x1, vI 0, vI 12] [] M Q) :=
  Tq_blk (is := bk_3_0) (dd := de_3) rfl rfl
/-- java/util/Arrays fill block at 5 -/
theorem t3_1_16002 {x0 x1 x2 x3 : Int} {M : Mem} {Q : AR → Mem → Prop} : Tq 3 1 [vR 16002 x0, vI x1, vI x2, vI x3] [] M Q ↔ (if x3 ≤ x2 then Tq 3 2 [vJ, vJ, vJ, vJ] [] M Q else ((0 : Int) ≤ x2 ∧ x2 < 12) ∧ bd (mset M 16002 x0 x2 x1) fun M1 => Tq 3 1 [vR 16002 x0, vI x1, vI (w32 (x2 + 1)), vI x3] [] M1 Q) :=
  Tq_blk (is := bk_3_1) (dd := de_3) rfl rfl
/-- java/util/Arrays fill block at 20 -/
theorem t3_2_16002 {M : Mem} {Q : AR → Mem → Prop} : Tq 3 2 [vJ, vJ, vJ, vJ] [] M Q ↔ (Q (.inl none) M) :=
  Tq_blk (is := bk_3_2) (dd := de_3) rfl rfl
/-- java/util/Arrays fill block at 0 -/
theorem t3_0_19006 {x1 : Int} {M : Mem} {Q : AR → Mem → Prop} : Tq 3 0 [vR 19006 0, vI x1, vJ, vJ] [] M Q ↔ (Tq 3 1 [vR 19006 0, vI x1, vI 0, vI 24] [] M Q) :=
  Tq_blk (is := bk_3_0) (dd := de_3) rfl rfl
/-- java/util/Arrays fill block at 5 -/
theorem t3_1_19006 {x1 x2 x3 : Int} {M : Mem} {Q : AR → Mem → Prop} : Tq 3 1 [vR 19006 0, vI x1, vI x2, vI x3] [] M Q ↔ (if x3 ≤ x2 then Tq 3 2 [vJ, vJ, vJ, vJ] [] M Q else ((0 : Int) ≤ x2 ∧ x2 < 24) ∧ bd (mset M 19006 0 x2 x1) fun M1 => Tq 3 1 [vR 19006 0, vI x1, vI (w32 (x2 + 1)), vI x3] [] M1 Q) :=
  Tq_blk (is := bk_3_1) (dd := de_3) rfl rfl
/-- java/util/Arrays fill block at 20 -/
theorem t3_2_19006 {M : Mem} {Q : AR → Mem → Prop} : Tq 3 2 [vJ, vJ, vJ, vJ] [] M Q ↔ (Q (.inl none) M) :=
  Tq_blk (is := bk_3_2) (dd := de_3) rfl rfl
/-- java/util/Arrays fill block at 0 -/
theorem t3_0_21002 {x1 : Int} {M : Mem} {Q : AR → Mem → Prop} : Tq 3 0 [vR 21002 0, vI x1, vJ, vJ] [] M Q ↔ (Tq 3 1 [vR 21002 0, vI x1, vI 0, vI 1024] [] M Q) :=
  Tq_blk (is := bk_3_0) (dd := de_3) rfl rfl
/-- java/util/Arrays fill block at 5 -/
theorem t3_1_21002 {x1 x2 x3 : Int} {M : Mem} {Q : AR → Mem → Prop} : Tq 3 1 [vR 21002 0, vI x1, vI x2, vI x3] [] M Q ↔ (if x3 ≤ x2 then Tq 3 2 [vJ, vJ, vJ, vJ] [] M Q else ((0 : Int) ≤ x2 ∧ x2 < 1024) ∧ bd (mset M 21002 0 x2 x1) fun M1 => Tq 3 1 [vR 21002 0, vI x1, vI (w32 (x2 + 1)), vI x3] [] M1 Q) :=
  Tq_blk (is := bk_3_1) (dd := de_3) rfl rfl
/-- java/util/Arrays fill block at 20 -/
theorem t3_2_21002 {M : Mem} {Q : AR → Mem → Prop} : Tq 3 2 [vJ, vJ, vJ, vJ] [] M Q ↔ (Q (.inl none) M) :=
  Tq_blk (is := bk_3_2) (dd := de_3) rfl rfl
/-- java/util/Arrays fill block at 0 -/
theorem t3_0_21003 {x1 : Int} {M : Mem} {Q : AR → Mem → Prop} : Tq 3 0 [vR 21003 0, vI x1, vJ, vJ] [] M Q ↔ (Tq 3 1 [vR 21003 0, vI x1, vI 0, vI 1024] [] M Q) :=
  Tq_blk (is := bk_3_0) (dd := de_3) rfl rfl
/-- java/util/Arrays fill block at 5 -/
theorem t3_1_21003 {x1 x2 x3 : Int} {M : Mem} {Q : AR → Mem → Prop} : Tq 3 1 [vR 21003 0, vI x1, vI x2, vI x3] [] M Q ↔ (if x3 ≤ x2 then Tq 3 2 [vJ, vJ, vJ, vJ] [] M Q else ((0 : Int) ≤ x2 ∧ x2 < 1024) ∧ bd (mset M 21003 0 x2 x1) fun M1 => Tq 3 1 [vR 21003 0, vI x1, vI (w32 (x2 + 1)), vI x3] [] M1 Q) :=
  Tq_blk (is := bk_3_1) (dd := de_3) rfl rfl
/-- java/util/Arrays fill block at 20 -/
theorem t3_2_21003 {M : Mem} {Q : AR → Mem → Prop} : Tq 3 2 [vJ, vJ, vJ, vJ] [] M Q ↔ (Q (.inl none) M) :=
  Tq_blk (is := bk_3_2) (dd := de_3) rfl rfl
/-- java/util/Arrays fill block at 0 -/
theorem t3_0_21004 {x1 : Int} {M : Mem} {Q : AR → Mem → Prop} : Tq 3 0 [vR 21004 0, vI x1, vJ, vJ] [] M Q ↔ (Tq 3 1 [vR 21004 0, vI x1, vI 0, vI 1024] [] M Q) :=
  Tq_blk (is := bk_3_0) (dd := de_3) rfl rfl
/-- java/util/Arrays fill block at 5 -/
theorem t3_1_21004 {x1 x2 x3 : Int} {M : Mem} {Q : AR → Mem → Prop} : Tq 3 1 [vR 21004 0, vI x1, vI x2, vI x3] [] M Q ↔ (if x3 ≤ x2 then Tq 3 2 [vJ, vJ, vJ, vJ] [] M Q else ((0 : Int) ≤ x2 ∧ x2 < 1024) ∧ bd (mset M 21004 0 x2 x1) fun M1 => Tq 3 1 [vR 21004 0, vI x1, vI (w32 (x2 + 1)), vI x3] [] M1 Q) :=
  Tq_blk (is := bk_3_1) (dd := de_3) rfl rfl
/-- java/util/Arrays fill block at 20 -/
theorem t3_2_21004 {M : Mem} {Q : AR → Mem → Prop} : Tq 3 2 [vJ, vJ, vJ, vJ] [] M Q ↔ (Q (.inl none) M) :=
  Tq_blk (is := bk_3_2) (dd := de_3) rfl rfl
/-- java/util/Arrays fill block at 0 -/
theorem t3_0_21005 {x1 : Int} {M : Mem} {Q : AR → Mem → Prop} : Tq 3 0 [vR 21005 0, vI x1, vJ, vJ] [] M Q ↔ (Tq 3 1 [vR 21005 0, vI x1, vI 0, vI 1024] [] M Q) :=
  Tq_blk (is := bk_3_0) (dd := de_3) rfl rfl
/-- java/util/Arrays fill block at 5 -/
theorem t3_1_21005 {x1 x2 x3 : Int} {M : Mem} {Q : AR → Mem → Prop} : Tq 3 1 [vR 21005 0, vI x1, vI x2, vI x3] [] M Q ↔ (if x3 ≤ x2 then Tq 3 2 [vJ, vJ, vJ, vJ] [] M Q else ((0 : Int) ≤ x2 ∧ x2 < 1024) ∧ bd (mset M 21005 0 x2 x1) fun M1 => Tq 3 1 [vR 21005 0, vI x1, vI (w32 (x2 + 1)), vI x3] [] M1 Q) :=
  Tq_blk (is := bk_3_1) (dd := de_3) rfl rfl
/-- java/util/Arrays fill block at 20 -/
theorem t3_2_21005 {M : Mem} {Q : AR → Mem → Prop} : Tq 3 2 [vJ, vJ, vJ, vJ] [] M Q ↔ (Q (.inl none) M) :=
  Tq_blk (is := bk_3_2) (dd := de_3) rfl rfl
/-- java/util/Arrays fill block at 0 -/
theorem t3_0_21006 {x1 : Int} {M : Mem} {Q : AR → Mem → Prop} : Tq 3 0 [vR 21006 0, vI x1, vJ, vJ] [] M Q ↔ (Tq 3 1 [vR 21006 0, vI x1, vI 0, vI 1024] [] M Q) :=
  Tq_blk (is := bk_3_0) (dd := de_3) rfl rfl
/-- java/util/Arrays fill block at 5 -/
theorem t3_1_21006 {x1 x2 x3 : Int} {M : Mem} {Q : AR → Mem → Prop} : Tq 3 1 [vR 21006 0, vI x1, vI x2, vI x3] [] M Q ↔ (if x3 ≤ x2 then Tq 3 2 [vJ, vJ, vJ, vJ] [] M Q else ((0 : Int) ≤ x2 ∧ x2 < 1024) ∧ bd (mset M 21006 0 x2 x1) fun M1 => Tq 3 1 [vR 21006 0, vI x1, vI (w32 (x2 + 1)), vI x3] [] M1 Q) :=
  Tq_blk (is := bk_3_1) (dd := de_3) rfl rfl
/-- java/util/Arrays fill block at 20 -/
theorem t3_2_21006 {M : Mem} {Q : AR → Mem → Prop} : Tq 3 2 [vJ, vJ, vJ, vJ] [] M Q ↔ (Q (.inl none) M) :=
  Tq_blk (is := bk_3_2) (dd := de_3) rfl rfl
/-- java/util/Arrays fill block at 0 -/
theorem t3_0_21007 {x1 : Int} {M : Mem} {Q : AR → Mem → Prop} : Tq 3 0 [vR 21007 0, vI x1, vJ, vJ] [] M Q ↔ (Tq 3 1 [vR 21007 0, vI x1, vI 0, vI 1024] [] M Q) :=
  Tq_blk (is := bk_3_0) (dd := de_3) rfl rfl
/-- java/util/Arrays fill block at 5 -/
theorem t3_1_21007 {x1 x2 x3 : Int} {M : Mem} {Q : AR → Mem → Prop} : Tq 3 1 [vR 21007 0, vI x1, vI x2, vI x3] [] M Q ↔ (if x3 ≤ x2 then Tq 3 2 [vJ, vJ, vJ, vJ] [] M Q else ((0 : Int) ≤ x2 ∧ x2 < 1024) ∧ bd (mset M 21007 0 x2 x1) fun M1 => Tq 3 1 [vR 21007 0, vI x1, vI (w32 (x2 + 1)), vI x3] [] M1 Q) :=
  Tq_blk (is := bk_3_1) (dd := de_3) rfl rfl
/-- java/util/Arrays fill block at 20 -/
theorem t3_2_21007 {M : Mem} {Q : AR → Mem → Prop} : Tq 3 2 [vJ, vJ, vJ, vJ] [] M Q ↔ (Q (.inl none) M) :=
  Tq_blk (is := bk_3_2) (dd := de_3) rfl rfl
/-- java/util/Arrays fill block at 0 -/
theorem t4_0_5004 {x1 : Int} {M : Mem} {Q : AR → Mem → Prop} : Tq 4 0 [vR 5004 0, vI x1, vJ, vJ] [] M Q ↔ (Tq 4 1 [vR 5004 0, vI x1, vI 0, vI 49152] [] M Q) :=
  Tq_blk (is := bk_4_0) (dd := de_4) rfl rfl
/-- java/util/Arrays fill block at 5 -/
theorem t4_1_5004 {x1 x2 x3 : Int} {M : Mem} {Q : AR → Mem → Prop} : Tq 4 1 [vR 5004 0, vI x1, vI x2, vI x3] [] M Q ↔ (if x3 ≤ x2 then Tq 4 2 [vJ, vJ, vJ, vJ] [] M Q else ((0 : Int) ≤ x2 ∧ x2 < 49152) ∧ bd (mset M 5004 0 x2 (nb x1)) fun M1 => Tq 4 1 [vR 5004 0, vI x1, vI (w32 (x2 + 1)), vI x3] [] M1 Q) :=
  Tq_blk (is := bk_4_1) (dd := de_4) rfl rfl
/-- java/util/Arrays fill block at 20 -/
theorem t4_2_5004 {M : Mem} {Q : AR → Mem → Prop} : Tq 4 2 [vJ, vJ, vJ, vJ] [] M Q ↔ (Q (.inl none) M) :=
  Tq_blk (is := bk_4_2) (dd := de_4) rfl rfl
/-- java/util/Arrays fill block at 0 -/
theorem t4_0_8007 {x1 : Int} {M : Mem} {Q : AR → Mem → Prop} : Tq 4 0 [vR 8007 0, vI x1, vJ, vJ] [] M Q ↔ (Tq 4 1 [vR 8007 0, vI x1, vI 0, vI 16384] [] M Q) :=
  Tq_blk (is := bk_4_0) (dd := de_4) rfl rfl
/-- java/util/Arrays fill block at 5 -/
theorem t4_1_8007 {x1 x2 x3 : Int} {M : Mem} {Q : AR → Mem → Prop} : Tq 4 1 [vR 8007 0, vI x1, vI x2, vI x3] [] M Q ↔ (if x3 ≤ x2 then Tq 4 2 [vJ, vJ, vJ, vJ] [] M Q else ((0 : Int) ≤ x2 ∧ x2 < 16384) ∧ bd (mset M 8007 0 x2 (nb x1)) fun M1 => Tq 4 1 [vR 8007 0, vI x1, vI (w32 (x2 + 1)), vI x3] [] M1 Q) :=
  Tq_blk (is := bk_4_1) (dd := de_4) rfl rfl
/-- java/util/Arrays fill block at 20 -/
theorem t4_2_8007 {M : Mem} {Q : AR → Mem → Prop} : Tq 4 2 [vJ, vJ, vJ, vJ] [] M Q ↔ (Q (.inl none) M) :=
  Tq_blk (is := bk_4_2) (dd := de_4) rfl rfl
/-- java/lang/Integer rotateLeft block at 0 -/
theorem t5_0 {x0 x1 : Int} {M : Mem} {Q : AR → Mem → Prop} : Tq 5 0 [vI x0, vI x1] [] M Q ↔ (Q (.inl (some (vI (or32 (shl32 x0 x1) (ush32 x0 (w32 (-x1))))))) M) :=
  Tq_blk (is := bk_5_0) (dd := de_5) rfl rfl
/-- java/lang/Integer numberOfLeadingZeros block at 0 -/
theorem t6_0 {x0 : Int} {M : Mem} {Q : AR → Mem → Prop} : Tq 6 0 [vI x0, vJ] [] M Q ↔ (if 0 < x0 then Tq 6 3 [vI x0, vJ] [] M Q else if ¬ x0 = 0 then Tq 6 1 [vJ, vJ] [] M Q else Tq 6 2 [vJ, vJ] [vI 32] M Q) :=
  Tq_blk (is := bk_6_0) (dd := de_6) rfl rfl
/-- java/lang/Integer numberOfLeadingZeros block at 13 -/
theorem t6_1 {M : Mem} {Q : AR → Mem → Prop} : Tq 6 1 [vJ, vJ] [] M Q ↔ (Tq 6 2 [vJ, vJ] [vI 0] M Q) :=
  Tq_blk (is := bk_6_1) (dd := de_6) rfl rfl
/-- java/lang/Integer numberOfLeadingZeros block at 14 -/
theorem t6_2 {s0 : Int} {M : Mem} {Q : AR → Mem → Prop} : Tq 6 2 [vJ, vJ] [vI s0] M Q ↔ (Q (.inl (some (vI s0))) M) :=
  Tq_blk (is := bk_6_2) (dd := de_6) rfl rfl
/-- java/lang/Integer numberOfLeadingZeros block at 15 -/
theorem t6_3 {x0 : Int} {M : Mem} {Q : AR → Mem → Prop} : Tq 6 3 [vI x0, vJ] [] M Q ↔ (if x0 < (65536 : Int) then Tq 6 4 [vI x0, vI 31] [] M Q else Tq 6 4 [vI (ush32 x0 16), vI (w32 (31 + (-16)))] [] M Q) :=
  Tq_blk (is := bk_6_3) (dd := de_6) rfl rfl
/-- java/lang/Integer numberOfLeadingZeros block at 33 -/
theorem t6_4 {x0 x1 : Int} {M : Mem} {Q : AR → Mem → Prop} : Tq 6 4 [vI x0, vI x1] [] M Q ↔ (if x0 < (256 : Int) then Tq 6 5 [vI x0, vI x1] [] M Q else Tq 6 5 [vI (ush32 x0 8), vI (w32 (x1 + (-8)))] [] M Q) :=
  Tq_blk (is := bk_6_4) (dd := de_6) rfl rfl
/-- java/lang/Integer numberOfLeadingZeros block at 48 -/
theorem t6_5 {x0 x1 : Int} {M : Mem} {Q : AR → Mem → Prop} : Tq 6 5 [vI x0, vI x1] [] M Q ↔ (if x0 < (16 : Int) then Tq 6 6 [vI x0, vI x1] [] M Q else Tq 6 6 [vI (ush32 x0 4), vI (w32 (x1 + (-4)))] [] M Q) :=
  Tq_blk (is := bk_6_5) (dd := de_6) rfl rfl
/-- java/lang/Integer numberOfLeadingZeros block at 61 -/
theorem t6_6 {x0 x1 : Int} {M : Mem} {Q : AR → Mem → Prop} : Tq 6 6 [vI x0, vI x1] [] M Q ↔ (if x0 < (4 : Int) then Tq 6 7 [vI x0, vI x1] [] M Q else Tq 6 7 [vI (ush32 x0 2), vI (w32 (x1 + (-2)))] [] M Q) :=
  Tq_blk (is := bk_6_6) (dd := de_6) rfl rfl
/-- java/lang/Integer numberOfLeadingZeros block at 73 -/
theorem t6_7 {x0 x1 : Int} {M : Mem} {Q : AR → Mem → Prop} : Tq 6 7 [vI x0, vI x1] [] M Q ↔ (Q (.inl (some (vI (w32 (x1 - (ush32 x0 1)))))) M) :=
  Tq_blk (is := bk_6_7) (dd := de_6) rfl rfl
/-- java/lang/Integer compare block at 0 -/
theorem t7_0 {x0 x1 : Int} {M : Mem} {Q : AR → Mem → Prop} : Tq 7 0 [vI x0, vI x1] [] M Q ↔ (if x1 ≤ x0 then Tq 7 1 [vI x0, vI x1] [] M Q else Tq 7 3 [vJ, vJ] [vI (-1)] M Q) :=
  Tq_blk (is := bk_7_0) (dd := de_7) rfl rfl
/-- java/lang/Integer compare block at 9 -/
theorem t7_1 {x0 x1 : Int} {M : Mem} {Q : AR → Mem → Prop} : Tq 7 1 [vI x0, vI x1] [] M Q ↔ (if ¬ x0 = x1 then Tq 7 2 [vJ, vJ] [] M Q else Tq 7 3 [vJ, vJ] [vI 0] M Q) :=
  Tq_blk (is := bk_7_1) (dd := de_7) rfl rfl
/-- java/lang/Integer compare block at 18 -/
theorem t7_2 {M : Mem} {Q : AR → Mem → Prop} : Tq 7 2 [vJ, vJ] [] M Q ↔ (Tq 7 3 [vJ, vJ] [vI 1] M Q) :=
  Tq_blk (is := bk_7_2) (dd := de_7) rfl rfl
/-- java/lang/Integer compare block at 19 -/
theorem t7_3 {s0 : Int} {M : Mem} {Q : AR → Mem → Prop} : Tq 7 3 [vJ, vJ] [vI s0] M Q ↔ (Q (.inl (some (vI s0))) M) :=
  Tq_blk (is := bk_7_3) (dd := de_7) rfl rfl
/-- java/lang/Math min block at 0 -/
theorem t8_0 {x0 x1 : Int} {M : Mem} {Q : AR → Mem → Prop} : Tq 8 0 [vI x0, vI x1] [] M Q ↔ (if x1 < x0 then Tq 8 1 [vJ, vI x1] [] M Q else Tq 8 2 [vJ, vJ] [vI x0] M Q) :=
  Tq_blk (is := bk_8_0) (dd := de_8) rfl rfl
/-- java/lang/Math min block at 9 -/
theorem t8_1 {x1 : Int} {M : Mem} {Q : AR → Mem → Prop} : Tq 8 1 [vJ, vI x1] [] M Q ↔ (Tq 8 2 [vJ, vJ] [vI x1] M Q) :=
  Tq_blk (is := bk_8_1) (dd := de_8) rfl rfl
/-- java/lang/Math min block at 10 -/
theorem t8_2 {s0 : Int} {M : Mem} {Q : AR → Mem → Prop} : Tq 8 2 [vJ, vJ] [vI s0] M Q ↔ (Q (.inl (some (vI s0))) M) :=
  Tq_blk (is := bk_8_2) (dd := de_8) rfl rfl
/-- java/lang/Math max block at 0 -/
theorem t9_0 {x0 x1 : Int} {M : Mem} {Q : AR → Mem → Prop} : Tq 9 0 [vI x0, vI x1] [] M Q ↔ (if x0 < x1 then Tq 9 1 [vJ, vI x1] [] M Q else Tq 9 2 [vJ, vJ] [vI x0] M Q) :=
  Tq_blk (is := bk_9_0) (dd := de_9) rfl rfl
/-- java/lang/Math max block at 9 -/
theorem t9_1 {x1 : Int} {M : Mem} {Q : AR → Mem → Prop} : Tq 9 1 [vJ, vI x1] [] M Q ↔ (Tq 9 2 [vJ, vJ] [vI x1] M Q) :=
  Tq_blk (is := bk_9_1) (dd := de_9) rfl rfl
/-- java/lang/Math max block at 10 -/
theorem t9_2 {s0 : Int} {M : Mem} {Q : AR → Mem → Prop} : Tq 9 2 [vJ, vJ] [vI s0] M Q ↔ (Q (.inl (some (vI s0))) M) :=
  Tq_blk (is := bk_9_2) (dd := de_9) rfl rfl
/-- java/lang/Math floorDiv block at 0 -/
theorem t10_0 {x0 x2 : Int} {M : Mem} {Q : AR → Mem → Prop} : Tq 10 0 [vL x0, vJ, vL x2, vJ, vJ, vJ] [] M Q ↔ ((¬ x2 = 0) ∧ if 0 ≤ cmp64 (xor64 x0 x2) 0 then Tq 10 1 [vJ, vJ, vJ, vJ, vL (div64 x0 x2), vJ] [] M Q else if cmp64 (w64 ((div64 x0 x2) * x2)) x0 = 0 then Tq 10 1 [vJ, vJ, vJ, vJ, vL (div64 x0 x2), vJ] [] M Q else Q (.inl (some (vL (w64 (div64 x0 x2 - 1))))) M) :=
  Tq_blk (is := bk_10_0) (dd := de_10) rfl rfl
/-- java/lang/Math floorDiv block at 27 -/
theorem t10_1 {x4 : Int} {M : Mem} {Q : AR → Mem → Prop} : Tq 10 1 [vJ, vJ, vJ, vJ, vL x4, vJ] [] M Q ↔ (Q (.inl (some (vL x4))) M) :=
  Tq_blk (is := bk_10_1) (dd := de_10) rfl rfl
/-- java/lang/Math min block at 0 -/
theorem t11_0 {x0 x2 : Int} {M : Mem} {Q : AR → Mem → Prop} : Tq 11 0 [vL x0, vJ, vL x2, vJ] [] M Q ↔ (if 0 < cmp64 x0 x2 then Tq 11 1 [vJ, vJ, vL x2, vJ] [] M Q else Tq 11 2 [vJ, vJ, vJ, vJ] [vL x0] M Q) :=
  Tq_blk (is := bk_11_0) (dd := de_11) rfl rfl
/-- java/lang/Math min block at 10 -/
theorem t11_1 {x2 : Int} {M : Mem} {Q : AR → Mem → Prop} : Tq 11 1 [vJ, vJ, vL x2, vJ] [] M Q ↔ (Tq 11 2 [vJ, vJ, vJ, vJ] [vL x2] M Q) :=
  Tq_blk (is := bk_11_1) (dd := de_11) rfl rfl
/-- java/lang/Math min block at 11 -/
theorem t11_2 {s0 : Int} {M : Mem} {Q : AR → Mem → Prop} : Tq 11 2 [vJ, vJ, vJ, vJ] [vL s0] M Q ↔ (Q (.inl (some (vL s0))) M) :=
  Tq_blk (is := bk_11_2) (dd := de_11) rfl rfl
/-- java/lang/Math max block at 0 -/
theorem t12_0 {x0 x2 : Int} {M : Mem} {Q : AR → Mem → Prop} : Tq 12 0 [vL x0, vJ, vL x2, vJ] [] M Q ↔ (if cmp64 x0 x2 < 0 then Tq 12 1 [vJ, vJ, vL x2, vJ] [] M Q else Tq 12 2 [vJ, vJ, vJ, vJ] [vL x0] M Q) :=
  Tq_blk (is := bk_12_0) (dd := de_12) rfl rfl
/-- java/lang/Math max block at 10 -/
theorem t12_1 {x2 : Int} {M : Mem} {Q : AR → Mem → Prop} : Tq 12 1 [vJ, vJ, vL x2, vJ] [] M Q ↔ (Tq 12 2 [vJ, vJ, vJ, vJ] [vL x2] M Q) :=
  Tq_blk (is := bk_12_1) (dd := de_12) rfl rfl
/-- java/lang/Math max block at 11 -/
theorem t12_2 {s0 : Int} {M : Mem} {Q : AR → Mem → Prop} : Tq 12 2 [vJ, vJ, vJ, vJ] [vL s0] M Q ↔ (Q (.inl (some (vL s0))) M) :=
  Tq_blk (is := bk_12_2) (dd := de_12) rfl rfl
/-- java/lang/Math abs block at 0 -/
theorem t13_0 {x0 : Int} {M : Mem} {Q : AR → Mem → Prop} : Tq 13 0 [vI x0] [] M Q ↔ (if 0 ≤ x0 then Tq 13 1 [vI x0] [] M Q else Tq 13 2 [vJ] [vI (w32 (-x0))] M Q) :=
  Tq_blk (is := bk_13_0) (dd := de_13) rfl rfl
/-- java/lang/Math abs block at 9 -/
theorem t13_1 {x0 : Int} {M : Mem} {Q : AR → Mem → Prop} : Tq 13 1 [vI x0] [] M Q ↔ (Tq 13 2 [vJ] [vI x0] M Q) :=
  Tq_blk (is := bk_13_1) (dd := de_13) rfl rfl
/-- java/lang/Math abs block at 10 -/
theorem t13_2 {s0 : Int} {M : Mem} {Q : AR → Mem → Prop} : Tq 13 2 [vJ] [vI s0] M Q ↔ (Q (.inl (some (vI s0))) M) :=
  Tq_blk (is := bk_13_2) (dd := de_13) rfl rfl
/-- java/lang/Math abs block at 0 -/
theorem t14_0 {x0 : Int} {M : Mem} {Q : AR → Mem → Prop} : Tq 14 0 [vL x0, vJ] [] M Q ↔ (if 0 ≤ cmp64 x0 0 then Tq 14 1 [vL x0, vJ] [] M Q else Tq 14 2 [vJ, vJ] [vL (w64 (-x0))] M Q) :=
  Tq_blk (is := bk_14_0) (dd := de_14) rfl rfl
/-- java/lang/Math abs block at 11 -/
theorem t14_1 {x0 : Int} {M : Mem} {Q : AR → Mem → Prop} : Tq 14 1 [vL x0, vJ] [] M Q ↔ (Tq 14 2 [vJ, vJ] [vL x0] M Q) :=
  Tq_blk (is := bk_14_1) (dd := de_14) rfl rfl
/-- java/lang/Math abs block at 12 -/
theorem t14_2 {s0 : Int} {M : Mem} {Q : AR → Mem → Prop} : Tq 14 2 [vJ, vJ] [vL s0] M Q ↔ (Q (.inl (some (vL s0))) M) :=
  Tq_blk (is := bk_14_2) (dd := de_14) rfl rfl
/-- java/lang/Long numberOfLeadingZeros block at 0 -/
theorem t15_0 {x0 : Int} {M : Mem} {Q : AR → Mem → Prop} : Tq 15 0 [vL x0, vJ, vJ] [] M Q ↔ (if ¬ w32 (ush64 x0 32) = 0 then Tq 15 1 [vJ, vJ, vI (w32 (ush64 x0 32))] [] M Q else Tq 6 0 [vI (w32 x0), vJ] [] M (kI fun v1 M1 => Tq 15 2 [vJ, vJ, vJ] [vI (w32 (32 + v1))] M1 Q)) :=
  Tq_blk (is := bk_15_0) (dd := de_15) rfl rfl
/-- java/lang/Long numberOfLeadingZeros block at 21 -/
theorem t15_1 {x2 : Int} {M : Mem} {Q : AR → Mem → Prop} : Tq 15 1 [vJ, vJ, vI x2] [] M Q ↔ (Tq 6 0 [vI x2, vJ] [] M (kI fun v1 M1 => Tq 15 2 [vJ, vJ, vJ] [vI v1] M1 Q)) :=
  Tq_blk (is := bk_15_1) (dd := de_15) rfl rfl
/-- java/lang/Long numberOfLeadingZeros block at 25 -/
theorem t15_2 {s0 : Int} {M : Mem} {Q : AR → Mem → Prop} : Tq 15 2 [vJ, vJ, vJ] [vI s0] M Q ↔ (Q (.inl (some (vI s0))) M) :=
  Tq_blk (is := bk_15_2) (dd := de_15) rfl rfl
/-- java/lang/String length block at 0 -/
theorem t16_0 {x0 : Int} {M : Mem} {Q : AR → Mem → Prop} : Tq 16 0 [vR 31 x0] [] M Q ↔ (Tq 17 0 [vR 31 x0] [] M (kI fun v1 M1 => Q (.inl (some (vI (shr32 (sLen x0) v1)))) M1)) :=
  Tq_blk (is := bk_16_0) (dd := de_16) rfl rfl
/-- java/lang/String coder block at 0 -/
theorem t17_0 {x0 : Int} {M : Mem} {Q : AR → Mem → Prop} : Tq 17 0 [vR 31 x0] [] M Q ↔ (if (1 : Int) = 0 then Tq 17 1 [vJ] [] M Q else Tq 17 2 [vJ] [vI 0] M Q) :=
  Tq_blk (is := bk_17_0) (dd := de_17) rfl rfl
/-- java/lang/String coder block at 13 -/
theorem t17_1 {M : Mem} {Q : AR → Mem → Prop} : Tq 17 1 [vJ] [] M Q ↔ (Tq 17 2 [vJ] [vI 1] M Q) :=
  Tq_blk (is := bk_17_1) (dd := de_17) rfl rfl
/-- java/lang/String coder block at 14 -/
theorem t17_2 {s0 : Int} {M : Mem} {Q : AR → Mem → Prop} : Tq 17 2 [vJ] [vI s0] M Q ↔ (Q (.inl (some (vI (w8 s0)))) M) :=
  Tq_blk (is := bk_17_2) (dd := de_17) rfl rfl
/-- java/lang/String charAt block at 0 -/
theorem t18_0 {x0 x1 : Int} {M : Mem} {Q : AR → Mem → Prop} : Tq 18 0 [vR 31 x0, vI x1] [] M Q ↔ (Tq 19 0 [vR 31 x0] [] M (kI fun v1 M1 => if v1 = 0 then Tq 18 1 [vR 31 x0, vI x1] [] M1 Q else Tq 21 0 [vR 31000 x0, vI x1] [] M1 (kI fun v2 M2 => Q (.inl (some (vI (v2 % 65536)))) M2))) :=
  Tq_blk (is := bk_18_0) (dd := de_18) rfl rfl
/-- java/lang/String charAt block at 16 -/
theorem t18_1 {x0 x1 : Int} {M : Mem} {Q : AR → Mem → Prop} : Tq 18 1 [vR 31 x0, vI x1] [] M Q ↔ (False) :=
  Tq_blk (is := bk_18_1) (dd := de_18) rfl rfl
/-- java/lang/String isLatin1 block at 0 -/
theorem t19_0 {x0 : Int} {M : Mem} {Q : AR → Mem → Prop} : Tq 19 0 [vR 31 x0] [] M Q ↔ (if (1 : Int) = 0 then Tq 19 1 [vJ] [] M Q else if ¬ (0 : Int) = 0 then Tq 19 1 [vJ] [] M Q else Tq 19 2 [vJ] [vI 1] M Q) :=
  Tq_blk (is := bk_19_0) (dd := de_19) rfl rfl
/-- java/lang/String isLatin1 block at 17 -/
theorem t19_1 {M : Mem} {Q : AR → Mem → Prop} : Tq 19 1 [vJ] [] M Q ↔ (Tq 19 2 [vJ] [vI 0] M Q) :=
  Tq_blk (is := bk_19_1) (dd := de_19) rfl rfl
/-- java/lang/String isLatin1 block at 18 -/
theorem t19_2 {s0 : Int} {M : Mem} {Q : AR → Mem → Prop} : Tq 19 2 [vJ] [vI s0] M Q ↔ (Q (.inl (some (vI (nb s0)))) M) :=
  Tq_blk (is := bk_19_2) (dd := de_19) rfl rfl
/-- java/lang/String checkIndex block at 0 -/
theorem t20_0 {x0 x1 : Int} {M : Mem} {Q : AR → Mem → Prop} : Tq 20 0 [vI x0, vI x1] [] M Q ↔ (Tq 22 0 [vI x0, vI x1, vR 33 0] [] M (kI fun v1 M1 => Q (.inl none) M1)) :=
  Tq_blk (is := bk_20_0) (dd := de_20) rfl rfl
/-- java/lang/StringLatin1 charAt block at 0 -/
theorem t21_0 {x0 x1 : Int} {M : Mem} {Q : AR → Mem → Prop} : Tq 21 0 [vR 31000 x0, vI x1] [] M Q ↔ (Tq 20 0 [vI x1, vI (sLen x0)] [] M (kV fun M1 => ((0 : Int) ≤ x1 ∧ x1 < sLen x0) ∧ Q (.inl (some (vI (((and32 (sAt x0 x1) 255) % 65536) % 65536)))) M1)) :=
  Tq_blk (is := bk_21_0) (dd := de_21) rfl rfl
/-- jdk/internal/util/Preconditions checkIndex block at 0 -/
theorem t22_0 {x0 x1 : Int} {M : Mem} {Q : AR → Mem → Prop} : Tq 22 0 [vI x0, vI x1, vR 33 0] [] M Q ↔ (if x0 < 0 then Tq 22 1 [vI x0, vI x1, vR 33 0] [] M Q else if x0 < x1 then Tq 22 2 [vI x0, vJ, vJ] [] M Q else Tq 22 1 [vI x0, vI x1, vR 33 0] [] M Q) :=
  Tq_blk (is := bk_22_0) (dd := de_22) rfl rfl
/-- jdk/internal/util/Preconditions checkIndex block at 9 -/
theorem t22_1 {x0 x1 : Int} {M : Mem} {Q : AR → Mem → Prop} : Tq 22 1 [vI x0, vI x1, vR 33 0] [] M Q ↔ (False) :=
  Tq_blk (is := bk_22_1) (dd := de_22) rfl rfl
/-- jdk/internal/util/Preconditions checkIndex block at 16 -/
theorem t22_2 {x0 : Int} {M : Mem} {Q : AR → Mem → Prop} : Tq 22 2 [vI x0, vJ, vJ] [] M Q ↔ (Q (.inl (some (vI x0))) M) :=
  Tq_blk (is := bk_22_2) (dd := de_22) rfl rfl
/-- EarthOffice feed block at 0 -/
theorem t23_0 {x1 x2 x3 x4 x5 : Int} {M : Mem} {Q : AR → Mem → Prop} : Tq 23 0 [vR 1 0, vI x1, vI x2, vI x3, vI x4, vI x5] [] M Q ↔ (if w32 (M 13 0 1 + 20) ≤ (400 : Int) then Tq 23 1 [vR 1 0, vI x1, vI x2, vI x3, vI x4, vI x5] [] M Q else Q (.inl (some (vI (-3)))) M) :=
  Tq_blk (is := bk_23_0) (dd := de_23) rfl rfl
/-- EarthOffice feed block at 19 -/
theorem t23_1 {x1 x2 x3 x4 x5 : Int} {M : Mem} {Q : AR → Mem → Prop} : Tq 23 1 [vR 1 0, vI x1, vI x2, vI x3, vI x4, vI x5] [] M Q ↔ (Tq 111 0 [vR 13 0, vI x1] [] M (kV fun M1 => Tq 111 0 [vR 13 0, vI x2] [] M1 (kV fun M2 => Tq 111 0 [vR 13 0, vI x3] [] M2 (kV fun M3 => Tq 111 0 [vR 13 0, vI x4] [] M3 (kV fun M4 => Tq 111 0 [vR 13 0, vI x5] [] M4 (kV fun M5 => Q (.inl (some (vI (M5 13 0 1)))) M5)))))) :=
  Tq_blk (is := bk_23_1) (dd := de_23) rfl rfl
/-- EarthOffice cut block at 0 -/
theorem t24_0 {x1 : Int} {M : Mem} {Q : AR → Mem → Prop} : Tq 24 0 [vR 1 0, vI x1, vJ] [] M Q ↔ (Tq 25 0 [vI x1, vI 0, vI (M 13 0 1)] [] M (kI fun v1 M1 => if ¬ v1 = 0 then Tq 24 1 [vR 1 0, vI x1, vJ] [] M1 Q else Q (.inl (some (vI (-1)))) M1)) :=
  Tq_blk (is := bk_24_0) (dd := de_24) rfl rfl
/-- EarthOffice cut block at 17 -/
theorem t24_1 {x1 : Int} {M : Mem} {Q : AR → Mem → Prop} : Tq 24 1 [vR 1 0, vI x1, vJ] [] M Q ↔ (bd (mset M 13 0 1 x1) fun M1 => Q (.inl (some (vI (M 13 0 1)))) M1) :=
  Tq_blk (is := bk_24_1) (dd := de_24) rfl rfl
/-- EarthOffice within block at 0 -/
theorem t25_0 {x0 x1 x2 : Int} {M : Mem} {Q : AR → Mem → Prop} : Tq 25 0 [vI x0, vI x1, vI x2] [] M Q ↔ (if x0 < x1 then Tq 25 1 [vJ, vJ, vJ] [] M Q else if x2 < x0 then Tq 25 1 [vJ, vJ, vJ] [] M Q else Tq 25 2 [vJ, vJ, vJ] [vI 1] M Q) :=
  Tq_blk (is := bk_25_0) (dd := de_25) rfl rfl
/-- EarthOffice within block at 14 -/
theorem t25_1 {M : Mem} {Q : AR → Mem → Prop} : Tq 25 1 [vJ, vJ, vJ] [] M Q ↔ (Tq 25 2 [vJ, vJ, vJ] [vI 0] M Q) :=
  Tq_blk (is := bk_25_1) (dd := de_25) rfl rfl
/-- EarthOffice within block at 15 -/
theorem t25_2 {s0 : Int} {M : Mem} {Q : AR → Mem → Prop} : Tq 25 2 [vJ, vJ, vJ] [vI s0] M Q ↔ (Q (.inl (some (vI (nb s0)))) M) :=
  Tq_blk (is := bk_25_2) (dd := de_25) rfl rfl
/-- EarthOffice at block at 0 -/
theorem t26_0 {x1 : Int} {M : Mem} {Q : AR → Mem → Prop} : Tq 26 0 [vR 1 0, vI x1] [] M Q ↔ (Tq 114 0 [vR 13 0, vI x1] [] M (kI fun v1 M1 => Q (.inl (some (vI v1))) M1)) :=
  Tq_blk (is := bk_26_0) (dd := de_26) rfl rfl
/-- EarthOffice station block at 0 -/
theorem t27_0 {x1 x2 : Int} {M : Mem} {Q : AR → Mem → Prop} : Tq 27 0 [vR 1 0, vI x1, vI x2] [] M Q ↔ (Tq 28 0 [vI x1, vI x2] [] M (kI fun v1 M1 => if ¬ v1 = 0 then Tq 27 1 [vR 1 0, vI x1, vI x2] [] M1 Q else Q (.inl (some (vI (-1)))) M1)) :=
  Tq_blk (is := bk_27_0) (dd := de_27) rfl rfl
/-- EarthOffice station block at 10 -/
theorem t27_1 {x1 x2 : Int} {M : Mem} {Q : AR → Mem → Prop} : Tq 27 1 [vR 1 0, vI x1, vI x2] [] M Q ↔ (if M 5 0 0 = (12 : Int) then Tq 27 2 [vJ, vJ, vJ] [] M Q else Tq 119 0 [vR 14 0, vI 9] [] M (kI fun v1 M1 => if ¬ v1 = 0 then Tq 27 3 [vR 1 0, vI x1, vI x2] [] M1 Q else Tq 27 2 [vJ, vJ, vJ] [] M1 Q)) :=
  Tq_blk (is := bk_27_1) (dd := de_27) rfl rfl
/-- EarthOffice station block at 34 -/
theorem t27_2 {M : Mem} {Q : AR → Mem → Prop} : Tq 27 2 [vJ, vJ, vJ] [] M Q ↔ (Q (.inl (some (vI (-3)))) M) :=
  Tq_blk (is := bk_27_2) (dd := de_27) rfl rfl
/-- EarthOffice station block at 37 -/
theorem t27_3 {x1 x2 : Int} {M : Mem} {Q : AR → Mem → Prop} : Tq 27 3 [vR 1 0, vI x1, vI x2] [] M Q ↔ (Tq 120 0 [vR 14 0, vI 83, vI x1, vI x2] [] M (kV fun M1 => Tq 352 0 [vR 5 0, vI x1, vI x2] [] M1 (kV fun M2 => Q (.inl (some (vI (w32 (M2 5 0 0 - 1))))) M2))) :=
  Tq_blk (is := bk_27_3) (dd := de_27) rfl rfl
/-- EarthOffice isPlace block at 0 -/
theorem t28_0 {x0 x1 : Int} {M : Mem} {Q : AR → Mem → Prop} : Tq 28 0 [vI x0, vI x1] [] M Q ↔ (Tq 25 0 [vI x0, vI 0, vI 63] [] M (kI fun v1 M1 => if v1 = 0 then Tq 28 1 [vJ, vJ] [] M1 Q else Tq 25 0 [vI x1, vI 0, vI 63] [] M1 (kI fun v2 M2 => if v2 = 0 then Tq 28 1 [vJ, vJ] [] M2 Q else Tq 28 2 [vJ, vJ] [vI 1] M2 Q))) :=
  Tq_blk (is := bk_28_0) (dd := de_28) rfl rfl
/-- EarthOffice isPlace block at 24 -/
theorem t28_1 {M : Mem} {Q : AR → Mem → Prop} : Tq 28 1 [vJ, vJ] [] M Q ↔ (Tq 28 2 [vJ, vJ] [vI 0] M Q) :=
  Tq_blk (is := bk_28_1) (dd := de_28) rfl rfl
/-- EarthOffice isPlace block at 25 -/
theorem t28_2 {s0 : Int} {M : Mem} {Q : AR → Mem → Prop} : Tq 28 2 [vJ, vJ] [vI s0] M Q ↔ (Q (.inl (some (vI (nb s0)))) M) :=
  Tq_blk (is := bk_28_2) (dd := de_28) rfl rfl
/-- EarthOffice hear block at 0 -/
theorem t29_0 {x1 : Int} {M : Mem} {Q : AR → Mem → Prop} : Tq 29 0 [vR 1 0, vI x1, vJ, vJ, vJ, vJ, vJ, vJ, vJ, vJ] [] M Q ↔ (Tq 25 0 [vI x1, vI 0, vI 3] [] M (kI fun v1 M1 => if ¬ v1 = 0 then Tq 29 1 [vR 1 0, vI x1, vJ, vJ, vJ, vJ, vJ, vJ, vJ, vJ] [] M1 Q else Q (.inl (some (vI (-1)))) M1)) :=
  Tq_blk (is := bk_29_0) (dd := de_29) rfl rfl
/-- EarthOffice hear block at 11 -/
theorem t29_1 {x1 : Int} {M : Mem} {Q : AR → Mem → Prop} : Tq 29 1 [vR 1 0, vI x1, vJ, vJ, vJ, vJ, vJ, vJ, vJ, vJ] [] M Q ↔ (((0 : Int) ≤ x1 ∧ x1 < 4) ∧ Tq 29 2 [vR 1 0, vJ, vR 16 x1, vI 0, vJ, vJ, vJ, vJ, vJ, vJ] [] M Q) :=
  Tq_blk (is := bk_29_1) (dd := de_29) rfl rfl
/-- EarthOffice hear block at 20 -/
theorem t29_2_c12 {x2 x3 : Int} {M : Mem} {Q : AR → Mem → Prop} : Bq 29 de_29 (List.drop 12 bk_29_2) [vR 1 0, vJ, vR 16 x2, vI x3, vJ, vJ, vJ, vJ, vJ, vJ] [] M Q ↔ (Tq 29 2 [vR 1 0, vJ, vR 16 x2, vI (w32 (x3 + 1)), vJ, vJ, vJ, vJ, vJ, vJ] [] M Q) :=
  Iff.rfl
theorem t29_2_c11 {x2 x3 s0 s1 : Int} {M : Mem} {Q : AR → Mem → Prop} : Bq 29 de_29 (List.drop 11 bk_29_2) [vR 1 0, vJ, vR 16 x2, vI x3, vJ, vJ, vJ, vJ, vJ, vJ] [vI s0, vR 13 s1] M Q ↔ (Tq 113 0 [vR 13 s1, vI s0] [] M (kV fun M1 => Tq 29 2 [vR 1 0, vJ, vR 16 x2, vI (w32 (x3 + 1)), vJ, vJ, vJ, vJ, vJ, vJ] [] M1 Q)) :=
  (show Bq 29 de_29 (List.drop 11 bk_29_2) [vR 1 0, vJ, vR 16 x2, vI x3, vJ, vJ, vJ, vJ, vJ, vJ] [vI s0, vR 13 s1] M Q ↔ (Tq 113 0 [vR 13 s1, vI s0] [] M (kV fun M1 => Bq 29 de_29 (List.drop 12 bk_29_2) [vR 1 0, vJ, vR 16 x2, vI x3, vJ, vJ, vJ, vJ, vJ, vJ] [] M1 Q)) from Iff.rfl).trans (by simp only [t29_2_c12])
theorem t29_2_c6 {x2 x3 s0 : Int} {M : Mem} {Q : AR → Mem → Prop} : Bq 29 de_29 (List.drop 6 bk_29_2) [vR 1 0, vJ, vR 16 x2, vI x3, vJ, vJ, vJ, vJ, vJ, vJ] [vR 16 s0] M Q ↔ (Tq 114 0 [vR 13 0, vI x3] [] M (kI fun v1 M1 => Tq 113 0 [vR 13 (3 + s0), vI v1] [] M1 (kV fun M2 => Tq 29 2 [vR 1 0, vJ, vR 16 x2, vI (w32 (x3 + 1)), vJ, vJ, vJ, vJ, vJ, vJ] [] M2 Q))) :=
  (show Bq 29 de_29 (List.drop 6 bk_29_2) [vR 1 0, vJ, vR 16 x2, vI x3, vJ, vJ, vJ, vJ, vJ, vJ] [vR 16 s0] M Q ↔ (Tq 114 0 [vR 13 0, vI x3] [] M (kI fun v1 M1 => Bq 29 de_29 (List.drop 11 bk_29_2) [vR 1 0, vJ, vR 16 x2, vI x3, vJ, vJ, vJ, vJ, vJ, vJ] [vI v1, vR 13 (3 + s0)] M1 Q)) from Iff.rfl).trans (by simp only [t29_2_c11])
theorem t29_2 {x2 x3 : Int} {M : Mem} {Q : AR → Mem → Prop} : Tq 29 2 [vR 1 0, vJ, vR 16 x2, vI x3, vJ, vJ, vJ, vJ, vJ, vJ] [] M Q ↔ (if M 13 0 1 ≤ x3 then Tq 29 3 [vR 1 0, vJ, vR 16 x2, vJ, vJ, vJ, vJ, vJ, vJ, vJ] [] M Q else Tq 114 0 [vR 13 0, vI x3] [] M (kI fun v1 M1 => Tq 113 0 [vR 13 (3 + x2), vI v1] [] M1 (kV fun M2 => Tq 29 2 [vR 1 0, vJ, vR 16 x2, vI (w32 (x3 + 1)), vJ, vJ, vJ, vJ, vJ, vJ] [] M2 Q))) :=
  (show Tq 29 2 [vR 1 0, vJ, vR 16 x2, vI x3, vJ, vJ, vJ, vJ, vJ, vJ] [] M Q ↔ (if M 13 0 1 ≤ x3 then Tq 29 3 [vR 1 0, vJ, vR 16 x2, vJ, vJ, vJ, vJ, vJ, vJ, vJ] [] M Q else Bq 29 de_29 (List.drop 6 bk_29_2) [vR 1 0, vJ, vR 16 x2, vI x3, vJ, vJ, vJ, vJ, vJ, vJ] [vR 16 x2] M Q) from Tq_blk (is := bk_29_2) (dd := de_29) rfl rfl).trans (by simp only [t29_2_c6])
/-- EarthOffice hear block at 52 -/
theorem t29_3_c12 {x2 x3 x4 s0 : Int} {M : Mem} {Q : AR → Mem → Prop} : Bq 29 de_29 (List.drop 12 bk_29_3) [vR 1 0, vJ, vR 16 x2, vI x3, vI x4, vJ, vJ, vJ, vJ, vJ] [vR 16 s0] M Q ↔ (if M 13 (3 + s0) 1 ≤ 0 then Tq 29 4 [vR 1 0, vJ, vR 16 x2, vI x3, vI x4, vJ, vJ, vJ, vJ, vJ] [] M Q else Tq 29 5 [vR 1 0, vJ, vR 16 x2, vI x3, vI x4, vJ, vJ, vJ, vJ, vJ] [vI 1] M Q) :=
  Iff.rfl
theorem t29_3_c6 {x2 s0 : Int} {M : Mem} {Q : AR → Mem → Prop} : Bq 29 de_29 (List.drop 6 bk_29_3) [vR 1 0, vJ, vR 16 x2, vJ, vJ, vJ, vJ, vJ, vJ, vJ] [vR 16001 s0] M Q ↔ (((0 : Int) ≤ 2 ∧ (2 : Int) < 10) ∧ if M 13 (3 + x2) 1 ≤ 0 then Tq 29 4 [vR 1 0, vJ, vR 16 x2, vI (M 16001 s0 2), vI 0, vJ, vJ, vJ, vJ, vJ] [] M Q else Tq 29 5 [vR 1 0, vJ, vR 16 x2, vI (M 16001 s0 2), vI 0, vJ, vJ, vJ, vJ, vJ] [vI 1] M Q) :=
  (show Bq 29 de_29 (List.drop 6 bk_29_3) [vR 1 0, vJ, vR 16 x2, vJ, vJ, vJ, vJ, vJ, vJ, vJ] [vR 16001 s0] M Q ↔ (((0 : Int) ≤ 2 ∧ (2 : Int) < 10) ∧ Bq 29 de_29 (List.drop 12 bk_29_3) [vR 1 0, vJ, vR 16 x2, vI (M 16001 s0 2), vI 0, vJ, vJ, vJ, vJ, vJ] [vR 16 x2] M Q) from Iff.rfl).trans (by simp only [t29_3_c12])
theorem t29_3 {x2 : Int} {M : Mem} {Q : AR → Mem → Prop} : Tq 29 3 [vR 1 0, vJ, vR 16 x2, vJ, vJ, vJ, vJ, vJ, vJ, vJ] [] M Q ↔ (bd (mset M 13 0 1 0) fun M1 => ((0 : Int) ≤ 2 ∧ (2 : Int) < 10) ∧ if M1 13 (3 + x2) 1 ≤ 0 then Tq 29 4 [vR 1 0, vJ, vR 16 x2, vI (M1 16001 x2 2), vI 0, vJ, vJ, vJ, vJ, vJ] [] M1 Q else Tq 29 5 [vR 1 0, vJ, vR 16 x2, vI (M1 16001 x2 2), vI 0, vJ, vJ, vJ, vJ, vJ] [vI 1] M1 Q) :=
  (show Tq 29 3 [vR 1 0, vJ, vR 16 x2, vJ, vJ, vJ, vJ, vJ, vJ, vJ] [] M Q ↔ (bd (mset M 13 0 1 0) fun M1 => Bq 29 de_29 (List.drop 6 bk_29_3) [vR 1 0, vJ, vR 16 x2, vJ, vJ, vJ, vJ, vJ, vJ, vJ] [vR 16001 x2] M1 Q) from Tq_blk (is := bk_29_3) (dd := de_29) rfl rfl).trans (by simp only [t29_3_c6])
/-- EarthOffice hear block at 84 -/
theorem t29_4 {x2 x3 x4 : Int} {M : Mem} {Q : AR → Mem → Prop} : Tq 29 4 [vR 1 0, vJ, vR 16 x2, vI x3, vI x4, vJ, vJ, vJ, vJ, vJ] [] M Q ↔ (Tq 29 5 [vR 1 0, vJ, vR 16 x2, vI x3, vI x4, vJ, vJ, vJ, vJ, vJ] [vI 0] M Q) :=
  Tq_blk (is := bk_29_4) (dd := de_29) rfl rfl
/-- EarthOffice hear block at 85 -/
theorem t29_5 {x2 x3 x4 s0 : Int} {M : Mem} {Q : AR → Mem → Prop} : Tq 29 5 [vR 1 0, vJ, vR 16 x2, vI x3, vI x4, vJ, vJ, vJ, vJ, vJ] [vI s0] M Q ↔ (Tq 29 6 [vR 1 0, vJ, vR 16 x2, vI x3, vI x4, vI s0, vJ, vJ, vJ, vJ] [] M Q) :=
  Tq_blk (is := bk_29_5) (dd := de_29) rfl rfl
/-- EarthOffice hear block at 87 -/
theorem t29_6_c12 {x2 x3 x4 x5 x6 s0 : Int} {M : Mem} {Q : AR → Mem → Prop} : Bq 29 de_29 (List.drop 12 bk_29_6) [vR 1 0, vJ, vR 16 x2, vI x3, vI x4, vI x5, vI x6, vJ, vJ, vJ] [vI s0] M Q ↔ (if ¬ s0 = (165 : Int) then Tq 29 7 [vR 1 0, vJ, vR 16 x2, vI x3, vI x4, vI x5, vI x6, vJ, vJ, vJ] [] M Q else Tq 29 8 [vR 1 0, vJ, vR 16 x2, vI x3, vI x4, vI x5, vI x6, vJ, vJ, vJ] [vI 1] M Q) :=
  Iff.rfl
theorem t29_6_c6 {x2 x3 x4 x5 s0 s1 : Int} {M : Mem} {Q : AR → Mem → Prop} : Bq 29 de_29 (List.drop 6 bk_29_6) [vR 1 0, vJ, vR 16 x2, vI x3, vI x4, vI x5, vJ, vJ, vJ, vJ] [vI s0, vI s1] M Q ↔ (Tq 114 0 [vR 13 (3 + x2), vI x4] [] M (kI fun v1 M1 => if ¬ v1 = (165 : Int) then Tq 29 7 [vR 1 0, vJ, vR 16 x2, vI x3, vI x4, vI x5, vI (w32 (s1 - s0)), vJ, vJ, vJ] [] M1 Q else Tq 29 8 [vR 1 0, vJ, vR 16 x2, vI x3, vI x4, vI x5, vI (w32 (s1 - s0)), vJ, vJ, vJ] [vI 1] M1 Q)) :=
  (show Bq 29 de_29 (List.drop 6 bk_29_6) [vR 1 0, vJ, vR 16 x2, vI x3, vI x4, vI x5, vJ, vJ, vJ, vJ] [vI s0, vI s1] M Q ↔ (Tq 114 0 [vR 13 (3 + x2), vI x4] [] M (kI fun v1 M1 => Bq 29 de_29 (List.drop 12 bk_29_6) [vR 1 0, vJ, vR 16 x2, vI x3, vI x4, vI x5, vI (w32 (s1 - s0)), vJ, vJ, vJ] [vI v1] M1 Q)) from Iff.rfl).trans (by simp only [t29_6_c12])
theorem t29_6 {x2 x3 x4 x5 : Int} {M : Mem} {Q : AR → Mem → Prop} : Tq 29 6 [vR 1 0, vJ, vR 16 x2, vI x3, vI x4, vI x5, vJ, vJ, vJ, vJ] [] M Q ↔ (if x5 = 0 then Tq 29 20 [vJ, vJ, vR 16 x2, vI x3, vI x4, vJ, vJ, vJ, vJ, vJ] [] M Q else Tq 114 0 [vR 13 (3 + x2), vI x4] [] M (kI fun v1 M1 => if ¬ v1 = (165 : Int) then Tq 29 7 [vR 1 0, vJ, vR 16 x2, vI x3, vI x4, vI x5, vI (w32 (M 13 (3 + x2) 1 - x4)), vJ, vJ, vJ] [] M1 Q else Tq 29 8 [vR 1 0, vJ, vR 16 x2, vI x3, vI x4, vI x5, vI (w32 (M 13 (3 + x2) 1 - x4)), vJ, vJ, vJ] [vI 1] M1 Q)) :=
  (show Tq 29 6 [vR 1 0, vJ, vR 16 x2, vI x3, vI x4, vI x5, vJ, vJ, vJ, vJ] [] M Q ↔ (if x5 = 0 then Tq 29 20 [vJ, vJ, vR 16 x2, vI x3, vI x4, vJ, vJ, vJ, vJ, vJ] [] M Q else Bq 29 de_29 (List.drop 6 bk_29_6) [vR 1 0, vJ, vR 16 x2, vI x3, vI x4, vI x5, vJ, vJ, vJ, vJ] [vI x4, vI (M 13 (3 + x2) 1)] M Q) from Tq_blk (is := bk_29_6) (dd := de_29) rfl rfl).trans (by simp only [t29_6_c6])
/-- EarthOffice hear block at 123 -/
theorem t29_7 {x2 x3 x4 x5 x6 : Int} {M : Mem} {Q : AR → Mem → Prop} : Tq 29 7 [vR 1 0, vJ, vR 16 x2, vI x3, vI x4, vI x5, vI x6, vJ, vJ, vJ] [] M Q ↔ (Tq 29 8 [vR 1 0, vJ, vR 16 x2, vI x3, vI x4, vI x5, vI x6, vJ, vJ, vJ] [vI 0] M Q) :=
  Tq_blk (is := bk_29_7) (dd := de_29) rfl rfl
/-- EarthOffice hear block at 124 -/
theorem t29_8_c11 {x2 x3 x4 x5 x6 x7 s0 : Int} {M : Mem} {Q : AR → Mem → Prop} : Bq 29 de_29 (List.drop 11 bk_29_8) [vR 1 0, vJ, vR 16 x2, vI x3, vI x4, vI x5, vI x6, vI x7, vJ, vJ] [vI s0] M Q ↔ (if s0 = 0 then Tq 29 10 [vR 1 0, vJ, vR 16 x2, vI x3, vI x4, vI x5, vI x6, vJ, vJ, vJ] [] M Q else Tq 29 9 [vR 1 0, vJ, vR 16 x2, vI x3, vI x4, vI x5, vI x6, vJ, vJ, vJ] [] M Q) :=
  Iff.rfl
theorem t29_8_c6 {x2 x3 x4 x5 x6 x7 : Int} {M : Mem} {Q : AR → Mem → Prop} : Bq 29 de_29 (List.drop 6 bk_29_8) [vR 1 0, vJ, vR 16 x2, vI x3, vI x4, vI x5, vI x6, vI x7, vJ, vJ] [] M Q ↔ (Tq 30 0 [vR 1 0, vR 13 (3 + x2), vI x4, vJ] [] M (kI fun v1 M1 => if v1 = 0 then Tq 29 10 [vR 1 0, vJ, vR 16 x2, vI x3, vI x4, vI x5, vI x6, vJ, vJ, vJ] [] M1 Q else Tq 29 9 [vR 1 0, vJ, vR 16 x2, vI x3, vI x4, vI x5, vI x6, vJ, vJ, vJ] [] M1 Q)) :=
  (show Bq 29 de_29 (List.drop 6 bk_29_8) [vR 1 0, vJ, vR 16 x2, vI x3, vI x4, vI x5, vI x6, vI x7, vJ, vJ] [] M Q ↔ (Tq 30 0 [vR 1 0, vR 13 (3 + x2), vI x4, vJ] [] M (kI fun v1 M1 => Bq 29 de_29 (List.drop 11 bk_29_8) [vR 1 0, vJ, vR 16 x2, vI x3, vI x4, vI x5, vI x6, vI x7, vJ, vJ] [vI v1] M1 Q)) from Iff.rfl).trans (by simp only [t29_8_c11])
theorem t29_8 {x2 x3 x4 x5 x6 s0 : Int} {M : Mem} {Q : AR → Mem → Prop} : Tq 29 8 [vR 1 0, vJ, vR 16 x2, vI x3, vI x4, vI x5, vI x6, vJ, vJ, vJ] [vI s0] M Q ↔ (if s0 = 0 then Tq 29 10 [vR 1 0, vJ, vR 16 x2, vI x3, vI x4, vI x5, vI x6, vJ, vJ, vJ] [] M Q else if x6 < (8 : Int) then Tq 29 9 [vR 1 0, vJ, vR 16 x2, vI x3, vI x4, vI x5, vI x6, vJ, vJ, vJ] [] M Q else Tq 30 0 [vR 1 0, vR 13 (3 + x2), vI x4, vJ] [] M (kI fun v1 M1 => if v1 = 0 then Tq 29 10 [vR 1 0, vJ, vR 16 x2, vI x3, vI x4, vI x5, vI x6, vJ, vJ, vJ] [] M1 Q else Tq 29 9 [vR 1 0, vJ, vR 16 x2, vI x3, vI x4, vI x5, vI x6, vJ, vJ, vJ] [] M1 Q)) :=
  (show Tq 29 8 [vR 1 0, vJ, vR 16 x2, vI x3, vI x4, vI x5, vI x6, vJ, vJ, vJ] [vI s0] M Q ↔ (if s0 = 0 then Tq 29 10 [vR 1 0, vJ, vR 16 x2, vI x3, vI x4, vI x5, vI x6, vJ, vJ, vJ] [] M Q else if x6 < (8 : Int) then Tq 29 9 [vR 1 0, vJ, vR 16 x2, vI x3, vI x4, vI x5, vI x6, vJ, vJ, vJ] [] M Q else Bq 29 de_29 (List.drop 6 bk_29_8) [vR 1 0, vJ, vR 16 x2, vI x3, vI x4, vI x5, vI x6, vI s0, vJ, vJ] [] M Q) from Tq_blk (is := bk_29_8) (dd := de_29) rfl rfl).trans (by simp only [t29_8_c6])
/-- EarthOffice hear block at 151 -/
theorem t29_9 {x2 x3 x4 x5 x6 : Int} {M : Mem} {Q : AR → Mem → Prop} : Tq 29 9 [vR 1 0, vJ, vR 16 x2, vI x3, vI x4, vI x5, vI x6, vJ, vJ, vJ] [] M Q ↔ (Tq 29 11 [vR 1 0, vJ, vR 16 x2, vI x3, vI x4, vI x5, vI x6, vJ, vJ, vJ] [vI 1] M Q) :=
  Tq_blk (is := bk_29_9) (dd := de_29) rfl rfl
/-- EarthOffice hear block at 155 -/
theorem t29_10 {x2 x3 x4 x5 x6 : Int} {M : Mem} {Q : AR → Mem → Prop} : Tq 29 10 [vR 1 0, vJ, vR 16 x2, vI x3, vI x4, vI x5, vI x6, vJ, vJ, vJ] [] M Q ↔ (Tq 29 11 [vR 1 0, vJ, vR 16 x2, vI x3, vI x4, vI x5, vI x6, vJ, vJ, vJ] [vI 0] M Q) :=
  Tq_blk (is := bk_29_10) (dd := de_29) rfl rfl
/-- EarthOffice hear block at 156 -/
theorem t29_11 {x2 x3 x4 x5 x6 s0 : Int} {M : Mem} {Q : AR → Mem → Prop} : Tq 29 11 [vR 1 0, vJ, vR 16 x2, vI x3, vI x4, vI x5, vI x6, vJ, vJ, vJ] [vI s0] M Q ↔ (if (8 : Int) ≤ x6 then Tq 29 12 [vR 1 0, vJ, vR 16 x2, vI x3, vI x4, vI x5, vI x6, vJ, vI s0, vJ] [] M Q else Tq 29 13 [vR 1 0, vJ, vR 16 x2, vI x3, vI x4, vI x5, vI x6, vJ, vI s0, vJ] [vI 0] M Q) :=
  Tq_blk (is := bk_29_11) (dd := de_29) rfl rfl
/-- EarthOffice hear block at 169 -/
theorem t29_12 {x2 x3 x4 x5 x6 x8 : Int} {M : Mem} {Q : AR → Mem → Prop} : Tq 29 12 [vR 1 0, vJ, vR 16 x2, vI x3, vI x4, vI x5, vI x6, vJ, vI x8, vJ] [] M Q ↔ (Tq 114 0 [vR 13 (3 + x2), vI (w32 (x4 + 7))] [] M (kI fun v1 M1 => Tq 29 13 [vR 1 0, vJ, vR 16 x2, vI x3, vI x4, vI x5, vI x6, vJ, vI x8, vJ] [vI (w32 (12 + v1))] M1 Q)) :=
  Tq_blk (is := bk_29_12) (dd := de_29) rfl rfl
/-- EarthOffice hear block at 184 -/
theorem t29_13 {x2 x3 x4 x5 x6 x8 s0 : Int} {M : Mem} {Q : AR → Mem → Prop} : Tq 29 13 [vR 1 0, vJ, vR 16 x2, vI x3, vI x4, vI x5, vI x6, vJ, vI x8, vJ] [vI s0] M Q ↔ (if x8 = 0 then Tq 29 15 [vR 1 0, vJ, vR 16 x2, vI x3, vI x4, vI x5, vJ, vJ, vI x8, vI s0] [] M Q else if x6 < (8 : Int) then Tq 29 14 [vR 1 0, vJ, vR 16 x2, vI x3, vI x4, vJ, vJ, vJ, vJ, vJ] [] M Q else if s0 ≤ x6 then Tq 29 15 [vR 1 0, vJ, vR 16 x2, vI x3, vI x4, vI x5, vJ, vJ, vI x8, vI s0] [] M Q else Tq 29 14 [vR 1 0, vJ, vR 16 x2, vI x3, vI x4, vJ, vJ, vJ, vJ, vJ] [] M Q) :=
  Tq_blk (is := bk_29_13) (dd := de_29) rfl rfl
/-- EarthOffice hear block at 205 -/
theorem t29_14 {x2 x3 x4 : Int} {M : Mem} {Q : AR → Mem → Prop} : Tq 29 14 [vR 1 0, vJ, vR 16 x2, vI x3, vI x4, vJ, vJ, vJ, vJ, vJ] [] M Q ↔ (Tq 29 17 [vR 1 0, vJ, vR 16 x2, vI x3, vI x4, vI 0, vJ, vJ, vJ, vJ] [] M Q) :=
  Tq_blk (is := bk_29_14) (dd := de_29) rfl rfl
/-- EarthOffice hear block at 211 -/
theorem t29_15_c24 {x2 x3 x4 x5 x8 x9 : Int} {M : Mem} {Q : AR → Mem → Prop} : Bq 29 de_29 (List.drop 24 bk_29_15) [vR 1 0, vJ, vR 16 x2, vI x3, vI x4, vI x5, vJ, vJ, vI x8, vI x9] [] M Q ↔ (Tq 29 17 [vR 1 0, vJ, vR 16 x2, vI x3, vI (w32 (x4 + x9)), vI x5, vJ, vJ, vJ, vJ] [] M Q) :=
  Iff.rfl
theorem t29_15_c19 {x2 x3 x4 x5 x8 x9 s0 s1 : Int} {M : Mem} {Q : AR → Mem → Prop} : Bq 29 de_29 (List.drop 19 bk_29_15) [vR 1 0, vJ, vR 16 x2, vI x3, vI x4, vI x5, vJ, vJ, vI x8, vI x9] [vI s0, vI s1] M Q ↔ (if ¬ s1 = s0 then Tq 29 16 [vR 1 0, vJ, vR 16 x2, vI x3, vI x4, vI x5, vJ, vJ, vJ, vJ] [] M Q else Tq 31 0 [vR 1 0, vR 16 x2, vI x4, vJ, vJ, vJ, vJ, vJ] [] M (kV fun M1 => Tq 29 17 [vR 1 0, vJ, vR 16 x2, vI x3, vI (w32 (x4 + x9)), vI x5, vJ, vJ, vJ, vJ] [] M1 Q)) :=
  (show Bq 29 de_29 (List.drop 19 bk_29_15) [vR 1 0, vJ, vR 16 x2, vI x3, vI x4, vI x5, vJ, vJ, vI x8, vI x9] [vI s0, vI s1] M Q ↔ (if ¬ s1 = s0 then Tq 29 16 [vR 1 0, vJ, vR 16 x2, vI x3, vI x4, vI x5, vJ, vJ, vJ, vJ] [] M Q else Tq 31 0 [vR 1 0, vR 16 x2, vI x4, vJ, vJ, vJ, vJ, vJ] [] M (kV fun M1 => Bq 29 de_29 (List.drop 24 bk_29_15) [vR 1 0, vJ, vR 16 x2, vI x3, vI x4, vI x5, vJ, vJ, vI x8, vI x9] [] M1 Q)) from Iff.rfl).trans (by simp only [t29_15_c24])
theorem t29_15_c17 {x2 x3 x4 x5 x8 x9 s0 s1 s2 s3 : Int} {M : Mem} {Q : AR → Mem → Prop} : Bq 29 de_29 (List.drop 17 bk_29_15) [vR 1 0, vJ, vR 16 x2, vI x3, vI x4, vI x5, vJ, vJ, vI x8, vI x9] [vI s0, vI s1, vR 13 s2, vI s3] M Q ↔ (Tq 117 0 [vR 13 s2, vI (w32 (s1 - s0))] [] M (kI fun v1 M1 => if ¬ s3 = v1 then Tq 29 16 [vR 1 0, vJ, vR 16 x2, vI x3, vI x4, vI x5, vJ, vJ, vJ, vJ] [] M1 Q else Tq 31 0 [vR 1 0, vR 16 x2, vI x4, vJ, vJ, vJ, vJ, vJ] [] M1 (kV fun M2 => Tq 29 17 [vR 1 0, vJ, vR 16 x2, vI x3, vI (w32 (x4 + x9)), vI x5, vJ, vJ, vJ, vJ] [] M2 Q))) :=
  (show Bq 29 de_29 (List.drop 17 bk_29_15) [vR 1 0, vJ, vR 16 x2, vI x3, vI x4, vI x5, vJ, vJ, vI x8, vI x9] [vI s0, vI s1, vR 13 s2, vI s3] M Q ↔ (Tq 117 0 [vR 13 s2, vI (w32 (s1 - s0))] [] M (kI fun v1 M1 => Bq 29 de_29 (List.drop 19 bk_29_15) [vR 1 0, vJ, vR 16 x2, vI x3, vI x4, vI x5, vJ, vJ, vI x8, vI x9] [vI v1, vI s3] M1 Q)) from Iff.rfl).trans (by simp only [t29_15_c19])
theorem t29_15_c11 {x2 x3 x4 x5 x8 x9 s0 : Int} {M : Mem} {Q : AR → Mem → Prop} : Bq 29 de_29 (List.drop 11 bk_29_15) [vR 1 0, vJ, vR 16 x2, vI x3, vI x4, vI x5, vJ, vJ, vI x8, vI x9] [vI s0] M Q ↔ (Tq 117 0 [vR 13 (3 + x2), vI (w32 (w32 (x4 + x9) - 4))] [] M (kI fun v1 M1 => if ¬ s0 = v1 then Tq 29 16 [vR 1 0, vJ, vR 16 x2, vI x3, vI x4, vI x5, vJ, vJ, vJ, vJ] [] M1 Q else Tq 31 0 [vR 1 0, vR 16 x2, vI x4, vJ, vJ, vJ, vJ, vJ] [] M1 (kV fun M2 => Tq 29 17 [vR 1 0, vJ, vR 16 x2, vI x3, vI (w32 (x4 + x9)), vI x5, vJ, vJ, vJ, vJ] [] M2 Q))) :=
  (show Bq 29 de_29 (List.drop 11 bk_29_15) [vR 1 0, vJ, vR 16 x2, vI x3, vI x4, vI x5, vJ, vJ, vI x8, vI x9] [vI s0] M Q ↔ (Bq 29 de_29 (List.drop 17 bk_29_15) [vR 1 0, vJ, vR 16 x2, vI x3, vI x4, vI x5, vJ, vJ, vI x8, vI x9] [vI 4, vI (w32 (x4 + x9)), vR 13 (3 + x2), vI s0] M Q) from Iff.rfl).trans (by simp only [t29_15_c17])
theorem t29_15_c6 {x2 x3 x4 x5 x8 x9 s0 s1 s2 : Int} {M : Mem} {Q : AR → Mem → Prop} : Bq 29 de_29 (List.drop 6 bk_29_15) [vR 1 0, vJ, vR 16 x2, vI x3, vI x4, vI x5, vJ, vJ, vI x8, vI x9] [vI s0, vI s1, vR 13 s2] M Q ↔ (Tq 115 0 [vR 13 s2, vI s1, vI (w32 (w32 (s0 + x9) - 4)), vJ, vJ] [] M (kI fun v1 M1 => Tq 117 0 [vR 13 (3 + x2), vI (w32 (w32 (x4 + x9) - 4))] [] M1 (kI fun v2 M2 => if ¬ v1 = v2 then Tq 29 16 [vR 1 0, vJ, vR 16 x2, vI x3, vI x4, vI x5, vJ, vJ, vJ, vJ] [] M2 Q else Tq 31 0 [vR 1 0, vR 16 x2, vI x4, vJ, vJ, vJ, vJ, vJ] [] M2 (kV fun M3 => Tq 29 17 [vR 1 0, vJ, vR 16 x2, vI x3, vI (w32 (x4 + x9)), vI x5, vJ, vJ, vJ, vJ] [] M3 Q)))) :=
  (show Bq 29 de_29 (List.drop 6 bk_29_15) [vR 1 0, vJ, vR 16 x2, vI x3, vI x4, vI x5, vJ, vJ, vI x8, vI x9] [vI s0, vI s1, vR 13 s2] M Q ↔ (Tq 115 0 [vR 13 s2, vI s1, vI (w32 (w32 (s0 + x9) - 4)), vJ, vJ] [] M (kI fun v1 M1 => Bq 29 de_29 (List.drop 11 bk_29_15) [vR 1 0, vJ, vR 16 x2, vI x3, vI x4, vI x5, vJ, vJ, vI x8, vI x9] [vI v1] M1 Q)) from Iff.rfl).trans (by simp only [t29_15_c11])
theorem t29_15 {x2 x3 x4 x5 x8 x9 : Int} {M : Mem} {Q : AR → Mem → Prop} : Tq 29 15 [vR 1 0, vJ, vR 16 x2, vI x3, vI x4, vI x5, vJ, vJ, vI x8, vI x9] [] M Q ↔ (if x8 = 0 then Tq 29 16 [vR 1 0, vJ, vR 16 x2, vI x3, vI x4, vI x5, vJ, vJ, vJ, vJ] [] M Q else Tq 115 0 [vR 13 (3 + x2), vI x4, vI (w32 (w32 (x4 + x9) - 4)), vJ, vJ] [] M (kI fun v1 M1 => Tq 117 0 [vR 13 (3 + x2), vI (w32 (w32 (x4 + x9) - 4))] [] M1 (kI fun v2 M2 => if ¬ v1 = v2 then Tq 29 16 [vR 1 0, vJ, vR 16 x2, vI x3, vI x4, vI x5, vJ, vJ, vJ, vJ] [] M2 Q else Tq 31 0 [vR 1 0, vR 16 x2, vI x4, vJ, vJ, vJ, vJ, vJ] [] M2 (kV fun M3 => Tq 29 17 [vR 1 0, vJ, vR 16 x2, vI x3, vI (w32 (x4 + x9)), vI x5, vJ, vJ, vJ, vJ] [] M3 Q)))) :=
  (show Tq 29 15 [vR 1 0, vJ, vR 16 x2, vI x3, vI x4, vI x5, vJ, vJ, vI x8, vI x9] [] M Q ↔ (if x8 = 0 then Tq 29 16 [vR 1 0, vJ, vR 16 x2, vI x3, vI x4, vI x5, vJ, vJ, vJ, vJ] [] M Q else Bq 29 de_29 (List.drop 6 bk_29_15) [vR 1 0, vJ, vR 16 x2, vI x3, vI x4, vI x5, vJ, vJ, vI x8, vI x9] [vI x4, vI x4, vR 13 (3 + x2)] M Q) from Tq_blk (is := bk_29_15) (dd := de_29) rfl rfl).trans (by simp only [t29_15_c6])
/-- EarthOffice hear block at 266 -/
theorem t29_16 {x2 x3 x4 x5 : Int} {M : Mem} {Q : AR → Mem → Prop} : Tq 29 16 [vR 1 0, vJ, vR 16 x2, vI x3, vI x4, vI x5, vJ, vJ, vJ, vJ] [] M Q ↔ (((0 : Int) ≤ 1 ∧ (1 : Int) < 10) ∧ ((0 : Int) ≤ 1 ∧ (1 : Int) < 10) ∧ bd (mset M 16001 x2 1 (w32 (M 16001 x2 1 + 1))) fun M1 => Tq 29 17 [vR 1 0, vJ, vR 16 x2, vI x3, vI (w32 (x4 + 1)), vI x5, vJ, vJ, vJ, vJ] [] M1 Q) :=
  Tq_blk (is := bk_29_16) (dd := de_29) rfl rfl
/-- EarthOffice hear block at 279 -/
theorem t29_17 {x2 x3 x4 x5 : Int} {M : Mem} {Q : AR → Mem → Prop} : Tq 29 17 [vR 1 0, vJ, vR 16 x2, vI x3, vI x4, vI x5, vJ, vJ, vJ, vJ] [] M Q ↔ (if M 13 (3 + x2) 1 ≤ x4 then Tq 29 18 [vR 1 0, vJ, vR 16 x2, vI x3, vI x4, vJ, vJ, vJ, vJ, vJ] [vI x5] M Q else Tq 29 19 [vR 1 0, vJ, vR 16 x2, vI x3, vI x4, vJ, vJ, vJ, vJ, vJ] [vI 1, vI x5] M Q) :=
  Tq_blk (is := bk_29_17) (dd := de_29) rfl rfl
/-- EarthOffice hear block at 297 -/
theorem t29_18 {x2 x3 x4 s0 : Int} {M : Mem} {Q : AR → Mem → Prop} : Tq 29 18 [vR 1 0, vJ, vR 16 x2, vI x3, vI x4, vJ, vJ, vJ, vJ, vJ] [vI s0] M Q ↔ (Tq 29 19 [vR 1 0, vJ, vR 16 x2, vI x3, vI x4, vJ, vJ, vJ, vJ, vJ] [vI 0, vI s0] M Q) :=
  Tq_blk (is := bk_29_18) (dd := de_29) rfl rfl
/-- EarthOffice hear block at 298 -/
theorem t29_19 {x2 x3 x4 s0 s1 : Int} {M : Mem} {Q : AR → Mem → Prop} : Tq 29 19 [vR 1 0, vJ, vR 16 x2, vI x3, vI x4, vJ, vJ, vJ, vJ, vJ] [vI s0, vI s1] M Q ↔ (Tq 29 6 [vR 1 0, vJ, vR 16 x2, vI x3, vI x4, vI (and32 s1 s0), vJ, vJ, vJ, vJ] [] M Q) :=
  Tq_blk (is := bk_29_19) (dd := de_29) rfl rfl
/-- EarthOffice hear block at 304 -/
theorem t29_20 {x2 x3 x4 : Int} {M : Mem} {Q : AR → Mem → Prop} : Tq 29 20 [vJ, vJ, vR 16 x2, vI x3, vI x4, vJ, vJ, vJ, vJ, vJ] [] M Q ↔ (Tq 118 0 [vR 13 (3 + x2), vI x4] [] M (kV fun M1 => ((0 : Int) ≤ 2 ∧ (2 : Int) < 10) ∧ Q (.inl (some (vI (w32 (M1 16001 x2 2 - x3))))) M1)) :=
  Tq_blk (is := bk_29_20) (dd := de_29) rfl rfl
/-- EarthOffice isHead block at 0 -/
theorem t30_0 {x1 x2 : Int} {M : Mem} {Q : AR → Mem → Prop} : Tq 30 0 [vR 1 0, vR 13 x1, vI x2, vJ] [] M Q ↔ (Tq 114 0 [vR 13 x1, vI (w32 (x2 + 6))] [] M (kI fun v1 M1 => Tq 114 0 [vR 13 x1, vI (w32 (x2 + 1))] [] M1 (kI fun v2 M2 => Tq 353 0 [vR 5 0, vI v2] [] M2 (kI fun v3 M3 => if v3 = 0 then Tq 30 1 [vJ, vJ, vJ, vJ] [] M3 Q else Tq 114 0 [vR 13 x1, vI (w32 (x2 + 3))] [] M3 (kI fun v4 M4 => if (2 : Int) < v4 then Tq 30 1 [vJ, vJ, vJ, vJ] [] M4 Q else Tq 25 0 [vI v1, vI 1, vI 56] [] M4 (kI fun v5 M5 => if v5 = 0 then Tq 30 1 [vJ, vJ, vJ, vJ] [] M5 Q else Tq 116 0 [vR 13 x1, vI (w32 (x2 + 4))] [] M5 (kI fun v6 M6 => if (4096 : Int) < w32 (v6 + v1) then Tq 30 1 [vJ, vJ, vJ, vJ] [] M6 Q else Tq 30 2 [vJ, vJ, vJ, vJ] [vI 1] M6 Q))))))) :=
  Tq_blk (is := bk_30_0) (dd := de_30) rfl rfl
/-- EarthOffice isHead block at 66 -/
theorem t30_1 {M : Mem} {Q : AR → Mem → Prop} : Tq 30 1 [vJ, vJ, vJ, vJ] [] M Q ↔ (Tq 30 2 [vJ, vJ, vJ, vJ] [vI 0] M Q) :=
  Tq_blk (is := bk_30_1) (dd := de_30) rfl rfl
/-- EarthOffice isHead block at 67 -/
theorem t30_2 {s0 : Int} {M : Mem} {Q : AR → Mem → Prop} : Tq 30 2 [vJ, vJ, vJ, vJ] [vI s0] M Q ↔ (Q (.inl (some (vI (nb s0)))) M) :=
  Tq_blk (is := bk_30_2) (dd := de_30) rfl rfl
/-- EarthOffice take block at 0 -/
theorem t31_0 {x1 x2 : Int} {M : Mem} {Q : AR → Mem → Prop} : Tq 31 0 [vR 1 0, vR 16 x1, vI x2, vJ, vJ, vJ, vJ, vJ] [] M Q ↔ (Tq 114 0 [vR 13 (3 + x1), vI (w32 (x2 + 1))] [] M (kI fun v1 M1 => Tq 116 0 [vR 13 (3 + x1), vI (w32 (x2 + 4))] [] M1 (kI fun v2 M2 => Tq 114 0 [vR 13 (3 + x1), vI (w32 (x2 + 6))] [] M2 (kI fun v3 M3 => Tq 114 0 [vR 13 (3 + x1), vI (w32 (x2 + 7))] [] M3 (kI fun v4 M4 => Tq 114 0 [vR 13 (3 + x1), vI (w32 (x2 + 3))] [] M4 (kI fun v5 M5 => Tq 125 0 [vR 15 0, vR 13 (3 + x1), vI (w32 (x2 + 8)), vI v4, vI v5, vI v3] [] M5 (kI fun v6 M6 => if ¬ v6 = 0 then Tq 31 1 [vR 1 0, vR 16 x1, vI x2, vI v1, vI v2, vI v3, vJ, vJ] [] M6 Q else ((0 : Int) ≤ 3 ∧ (3 : Int) < 10) ∧ ((0 : Int) ≤ 3 ∧ (3 : Int) < 10) ∧ bd (mset M6 16001 x1 3 (w32 (M6 16001 x1 3 + 1))) fun M7 => Q (.inl none) M7))))))) :=
  Tq_blk (is := bk_31_0) (dd := de_31) rfl rfl
/-- EarthOffice take block at 88 -/
theorem t31_1 {x1 x2 x3 x4 x5 : Int} {M : Mem} {Q : AR → Mem → Prop} : Tq 31 1 [vR 1 0, vR 16 x1, vI x2, vI x3, vI x4, vI x5, vJ, vJ] [] M Q ↔ (Tq 114 0 [vR 13 (3 + x1), vI (w32 (x2 + 2))] [] M (kI fun v1 M1 => Tq 137 0 [vR 16 x1, vI x3, vI v1, vJ, vJ] [] M1 (kV fun M2 => Tq 354 0 [vR 5 0, vI x3, vI x4, vI x5, vJ, vJ] [] M2 (kI fun v2 M3 => if ¬ v2 = 0 then Tq 31 2 [vR 1 0, vR 16 x1, vJ, vI x3, vI x4, vI x5, vJ, vJ] [] M3 Q else Tq 31 3 [vR 1 0, vR 16 x1, vJ, vI x3, vI x4, vI x5, vJ, vJ] [vI 1] M3 Q)))) :=
  Tq_blk (is := bk_31_1) (dd := de_31) rfl rfl
/-- EarthOffice take block at 122 -/
theorem t31_2 {x1 x3 x4 x5 : Int} {M : Mem} {Q : AR → Mem → Prop} : Tq 31 2 [vR 1 0, vR 16 x1, vJ, vI x3, vI x4, vI x5, vJ, vJ] [] M Q ↔ (Tq 31 3 [vR 1 0, vR 16 x1, vJ, vI x3, vI x4, vI x5, vJ, vJ] [vI 0] M Q) :=
  Tq_blk (is := bk_31_2) (dd := de_31) rfl rfl
/-- EarthOffice take block at 123 -/
theorem t31_3 {x1 x3 x4 x5 s0 : Int} {M : Mem} {Q : AR → Mem → Prop} : Tq 31 3 [vR 1 0, vR 16 x1, vJ, vI x3, vI x4, vI x5, vJ, vJ] [vI s0] M Q ↔ (if s0 = 0 then Tq 31 4 [vR 1 0, vR 16 x1, vJ, vI x3, vI x4, vI x5, vI s0, vJ] [] M Q else Tq 119 0 [vR 14 0, vI (w32 (13 + w32 (4 * x5)))] [] M (kI fun v1 M1 => if ¬ v1 = 0 then Tq 31 4 [vR 1 0, vR 16 x1, vJ, vI x3, vI x4, vI x5, vI s0, vJ] [] M1 Q else ((0 : Int) ≤ 6 ∧ (6 : Int) < 10) ∧ ((0 : Int) ≤ 6 ∧ (6 : Int) < 10) ∧ bd (mset M1 16001 x1 6 (w32 (M1 16001 x1 6 + 1))) fun M2 => Q (.inl none) M2)) :=
  Tq_blk (is := bk_31_3) (dd := de_31) rfl rfl
/-- EarthOffice take block at 159 -/
theorem t31_4 {x1 x3 x4 x5 x6 : Int} {M : Mem} {Q : AR → Mem → Prop} : Tq 31 4 [vR 1 0, vR 16 x1, vJ, vI x3, vI x4, vI x5, vI x6, vJ] [] M Q ↔ (if x6 = 0 then Tq 31 7 [vR 1 0, vR 16 x1, vJ, vI x3, vI x4, vI x5, vJ, vJ] [] M Q else Tq 121 0 [vR 14 0, vI (w32 (13 + w32 (4 * x5))), vI 82] [] M (kV fun M1 => Tq 111 0 [vR 13 1, vI x3] [] M1 (kV fun M2 => Tq 111 0 [vR 13 1, vI x4] [] M2 (kV fun M3 => Tq 111 0 [vR 13 1, vI x5] [] M3 (kV fun M4 => Tq 31 5 [vR 1 0, vR 16 x1, vJ, vI x3, vI x4, vI x5, vJ, vI 0] [] M4 Q))))) :=
  Tq_blk (is := bk_31_4) (dd := de_31) rfl rfl
/-- EarthOffice take block at 218 -/
theorem t31_5 {x1 x3 x4 x5 x7 : Int} {M : Mem} {Q : AR → Mem → Prop} : Tq 31 5 [vR 1 0, vR 16 x1, vJ, vI x3, vI x4, vI x5, vJ, vI x7] [] M Q ↔ (if x5 ≤ x7 then Tq 31 6 [vR 1 0, vR 16 x1, vJ, vI x3, vI x4, vI x5, vJ, vJ] [] M Q else ((0 : Int) ≤ x7 ∧ x7 < 56) ∧ Tq 111 0 [vR 13 1, vI (M 15000 0 x7)] [] M (kV fun M1 => Tq 31 5 [vR 1 0, vR 16 x1, vJ, vI x3, vI x4, vI x5, vJ, vI (w32 (x7 + 1))] [] M1 Q)) :=
  Tq_blk (is := bk_31_5) (dd := de_31) rfl rfl
/-- EarthOffice take block at 251 -/
theorem t31_6 {x1 x3 x4 x5 : Int} {M : Mem} {Q : AR → Mem → Prop} : Tq 31 6 [vR 1 0, vR 16 x1, vJ, vI x3, vI x4, vI x5, vJ, vJ] [] M Q ↔ (Tq 122 0 [vR 14 0] [] M (kV fun M1 => Tq 31 7 [vR 1 0, vR 16 x1, vJ, vI x3, vI x4, vI x5, vJ, vJ] [] M1 Q)) :=
  Tq_blk (is := bk_31_6) (dd := de_31) rfl rfl
/-- EarthOffice take block at 258 -/
theorem t31_7 {x1 x3 x4 x5 : Int} {M : Mem} {Q : AR → Mem → Prop} : Tq 31 7 [vR 1 0, vR 16 x1, vJ, vI x3, vI x4, vI x5, vJ, vJ] [] M Q ↔ (Tq 31 8 [vR 1 0, vR 16 x1, vJ, vI x3, vI x4, vI x5, vJ, vI 0] [] M Q) :=
  Tq_blk (is := bk_31_7) (dd := de_31) rfl rfl
/-- EarthOffice take block at 261 -/
theorem t31_8 {x1 x3 x4 x5 x7 : Int} {M : Mem} {Q : AR → Mem → Prop} : Tq 31 8 [vR 1 0, vR 16 x1, vJ, vI x3, vI x4, vI x5, vJ, vI x7] [] M Q ↔ (if x5 ≤ x7 then Tq 31 9 [vJ, vR 16 x1, vJ, vJ, vJ, vJ, vJ, vJ] [] M Q else ((0 : Int) ≤ x7 ∧ x7 < 56) ∧ Tq 356 0 [vR 5 0, vI x3, vI (w32 (x4 + x7)), vI (M 15000 0 x7), vJ] [] M (kI fun v1 M1 => ((0 : Int) ≤ w32 (7 + v1) ∧ w32 (7 + v1) < 10) ∧ ((0 : Int) ≤ w32 (7 + v1) ∧ w32 (7 + v1) < 10) ∧ bd (mset M1 16001 x1 (w32 (7 + v1)) (w32 (M1 16001 x1 (w32 (7 + v1)) + 1))) fun M2 => Tq 31 8 [vR 1 0, vR 16 x1, vJ, vI x3, vI x4, vI x5, vJ, vI (w32 (x7 + 1))] [] M2 Q)) :=
  Tq_blk (is := bk_31_8) (dd := de_31) rfl rfl
/-- EarthOffice take block at 309 -/
theorem t31_9 {x1 : Int} {M : Mem} {Q : AR → Mem → Prop} : Tq 31 9 [vJ, vR 16 x1, vJ, vJ, vJ, vJ, vJ, vJ] [] M Q ↔ (((0 : Int) ≤ 2 ∧ (2 : Int) < 10) ∧ ((0 : Int) ≤ 2 ∧ (2 : Int) < 10) ∧ bd (mset M 16001 x1 2 (w32 (M 16001 x1 2 + 1))) fun M1 => Q (.inl none) M1) :=
  Tq_blk (is := bk_31_9) (dd := de_31) rfl rfl
/-- EarthOffice line block at 0 -/
theorem t32_0 {x1 x2 : Int} {M : Mem} {Q : AR → Mem → Prop} : Tq 32 0 [vR 1 0, vI x1, vI x2] [] M Q ↔ (Tq 25 0 [vI x1, vI 0, vI 3] [] M (kI fun v1 M1 => if v1 = 0 then Tq 32 1 [vJ, vJ, vJ] [] M1 Q else Tq 25 0 [vI x2, vI 0, vI 9] [] M1 (kI fun v2 M2 => if ¬ v2 = 0 then Tq 32 2 [vR 1 0, vI x1, vI x2] [] M2 Q else Tq 32 1 [vJ, vJ, vJ] [] M2 Q))) :=
  Tq_blk (is := bk_32_0) (dd := de_32) rfl rfl
/-- EarthOffice line block at 19 -/
theorem t32_1 {M : Mem} {Q : AR → Mem → Prop} : Tq 32 1 [vJ, vJ, vJ] [] M Q ↔ (Q (.inl (some (vI (-1)))) M) :=
  Tq_blk (is := bk_32_1) (dd := de_32) rfl rfl
/-- EarthOffice line block at 21 -/
theorem t32_2 {x1 x2 : Int} {M : Mem} {Q : AR → Mem → Prop} : Tq 32 2 [vR 1 0, vI x1, vI x2] [] M Q ↔ (if ¬ x2 = 0 then Tq 32 3 [vR 1 0, vI x1, vI x2] [] M Q else ((0 : Int) ≤ x1 ∧ x1 < 4) ∧ Tq 32 4 [vJ, vJ, vJ] [vI (M 13 (3 + x1) 1)] M Q) :=
  Tq_blk (is := bk_32_2) (dd := de_32) rfl rfl
/-- EarthOffice line block at 40 -/
theorem t32_3 {x1 x2 : Int} {M : Mem} {Q : AR → Mem → Prop} : Tq 32 3 [vR 1 0, vI x1, vI x2] [] M Q ↔ (((0 : Int) ≤ x1 ∧ x1 < 4) ∧ ((0 : Int) ≤ x2 ∧ x2 < 10) ∧ Tq 32 4 [vJ, vJ, vJ] [vI (M 16001 x1 x2)] M Q) :=
  Tq_blk (is := bk_32_3) (dd := de_32) rfl rfl
/-- EarthOffice line block at 51 -/
theorem t32_4 {s0 : Int} {M : Mem} {Q : AR → Mem → Prop} : Tq 32 4 [vJ, vJ, vJ] [vI s0] M Q ↔ (Q (.inl (some (vI s0))) M) :=
  Tq_blk (is := bk_32_4) (dd := de_32) rfl rfl
/-- EarthOffice record block at 0 -/
theorem t33_0 {x1 x2 x3 x4 x5 : Int} {M : Mem} {Q : AR → Mem → Prop} : Tq 33 0 [vR 1 0, vI x1, vI x2, vI x3, vI x4, vI x5] [] M Q ↔ (Tq 353 0 [vR 5 0, vI x1] [] M (kI fun v1 M1 => if v1 = 0 then Tq 33 1 [vJ, vJ, vJ, vJ, vJ, vJ] [] M1 Q else Tq 34 0 [vI x2] [] M1 (kI fun v2 M2 => if v2 = 0 then Tq 33 1 [vJ, vJ, vJ, vJ, vJ, vJ] [] M2 Q else Tq 25 0 [vI x3, vI 1, vI 56] [] M2 (kI fun v3 M3 => if v3 = 0 then Tq 33 1 [vJ, vJ, vJ, vJ, vJ, vJ] [] M3 Q else if (4096 : Int) < w32 (x2 + x3) then Tq 33 1 [vJ, vJ, vJ, vJ, vJ, vJ] [] M3 Q else Tq 25 0 [vI x4, vI 0, vI 2] [] M3 (kI fun v4 M4 => if v4 = 0 then Tq 33 1 [vJ, vJ, vJ, vJ, vJ, vJ] [] M4 Q else Tq 25 0 [vI x5, vI 0, vI 255] [] M4 (kI fun v5 M5 => if ¬ v5 = 0 then Tq 33 2 [vR 1 0, vI x1, vI x2, vI x3, vI x4, vI x5] [] M5 Q else Tq 33 1 [vJ, vJ, vJ, vJ, vJ, vJ] [] M5 Q)))))) :=
  Tq_blk (is := bk_33_0) (dd := de_33) rfl rfl
/-- EarthOffice record block at 59 -/
theorem t33_1 {M : Mem} {Q : AR → Mem → Prop} : Tq 33 1 [vJ, vJ, vJ, vJ, vJ, vJ] [] M Q ↔ (Q (.inl (some (vI (-1)))) M) :=
  Tq_blk (is := bk_33_1) (dd := de_33) rfl rfl
/-- EarthOffice record block at 61 -/
theorem t33_2 {x1 x2 x3 x4 x5 : Int} {M : Mem} {Q : AR → Mem → Prop} : Tq 33 2 [vR 1 0, vI x1, vI x2, vI x3, vI x4, vI x5] [] M Q ↔ (Tq 354 0 [vR 5 0, vI x1, vI x2, vI x3, vJ, vJ] [] M (kI fun v1 M1 => if ¬ v1 = 0 then Tq 33 3 [vR 1 0, vI x1, vI x2, vI x3, vI x4, vI x5] [] M1 Q else Q (.inl (some (vI (-2)))) M1)) :=
  Tq_blk (is := bk_33_2) (dd := de_33) rfl rfl
/-- EarthOffice record block at 77 -/
theorem t33_3_c74 {x1 x2 x3 x4 x5 : Int} {M : Mem} {Q : AR → Mem → Prop} : Bq 33 de_33 (List.drop 74 bk_33_3) [vR 1 0, vI x1, vI x2, vI x3, vI x4, vI x5] [] M Q ↔ (Q (.inl (some (vI (M 13 0 1)))) M) :=
  Iff.rfl
theorem t33_3_c73 {x1 x2 x3 x4 x5 s0 : Int} {M : Mem} {Q : AR → Mem → Prop} : Bq 33 de_33 (List.drop 73 bk_33_3) [vR 1 0, vI x1, vI x2, vI x3, vI x4, vI x5] [vI s0, vR 13 0] M Q ↔ (Tq 111 0 [vR 13 0, vI s0] [] M (kV fun M1 => Q (.inl (some (vI (M1 13 0 1)))) M1)) :=
  (show Bq 33 de_33 (List.drop 73 bk_33_3) [vR 1 0, vI x1, vI x2, vI x3, vI x4, vI x5] [vI s0, vR 13 0] M Q ↔ (Tq 111 0 [vR 13 0, vI s0] [] M (kV fun M1 => Bq 33 de_33 (List.drop 74 bk_33_3) [vR 1 0, vI x1, vI x2, vI x3, vI x4, vI x5] [] M1 Q)) from Iff.rfl).trans (by simp only [t33_3_c74])
theorem t33_3_c70 {x1 x2 x3 x4 x5 s1 : Int} {M : Mem} {Q : AR → Mem → Prop} : Bq 33 de_33 (List.drop 70 bk_33_3) [vR 1 0, vI x1, vI x2, vI x3, vI x4, vI x5] [vR 1 0, vI s1, vR 13 0, vR 13 0] M Q ↔ (Tq 115 0 [vR 13 0, vI s1, vI (M 13 0 1), vJ, vJ] [] M (kI fun v1 M1 => Tq 111 0 [vR 13 0, vI v1] [] M1 (kV fun M2 => Q (.inl (some (vI (M2 13 0 1)))) M2))) :=
  (show Bq 33 de_33 (List.drop 70 bk_33_3) [vR 1 0, vI x1, vI x2, vI x3, vI x4, vI x5] [vR 1 0, vI s1, vR 13 0, vR 13 0] M Q ↔ (Tq 115 0 [vR 13 0, vI s1, vI (M 13 0 1), vJ, vJ] [] M (kI fun v1 M1 => Bq 33 de_33 (List.drop 73 bk_33_3) [vR 1 0, vI x1, vI x2, vI x3, vI x4, vI x5] [vI v1, vR 13 0] M1 Q)) from Iff.rfl).trans (by simp only [t33_3_c73])
theorem t33_3_c64 {x1 x2 x3 x4 x5 : Int} {M : Mem} {Q : AR → Mem → Prop} : Bq 33 de_33 (List.drop 64 bk_33_3) [vR 1 0, vI x1, vI x2, vI x3, vI x4, vI x5] [] M Q ↔ (Tq 115 0 [vR 13 0, vI 0, vI (M 13 0 1), vJ, vJ] [] M (kI fun v1 M1 => Tq 111 0 [vR 13 0, vI v1] [] M1 (kV fun M2 => Q (.inl (some (vI (M2 13 0 1)))) M2))) :=
  (show Bq 33 de_33 (List.drop 64 bk_33_3) [vR 1 0, vI x1, vI x2, vI x3, vI x4, vI x5] [] M Q ↔ (Bq 33 de_33 (List.drop 70 bk_33_3) [vR 1 0, vI x1, vI x2, vI x3, vI x4, vI x5] [vR 1 0, vI 0, vR 13 0, vR 13 0] M Q) from Iff.rfl).trans (by simp only [t33_3_c70])
theorem t33_3_c58 {x1 x2 x3 x4 x5 s1 : Int} {M : Mem} {Q : AR → Mem → Prop} : Bq 33 de_33 (List.drop 58 bk_33_3) [vR 1 0, vI x1, vI x2, vI x3, vI x4, vI x5] [vR 1 0, vI s1, vR 13000 0] M Q ↔ (((0 : Int) ≤ s1 ∧ s1 < bLen 0) ∧ bd (mset M 13000 0 s1 (w8 (w8 (w32 (M 13 0 1 - 8))))) fun M1 => Tq 115 0 [vR 13 0, vI 0, vI (M1 13 0 1), vJ, vJ] [] M1 (kI fun v1 M2 => Tq 111 0 [vR 13 0, vI v1] [] M2 (kV fun M3 => Q (.inl (some (vI (M3 13 0 1)))) M3))) :=
  (show Bq 33 de_33 (List.drop 58 bk_33_3) [vR 1 0, vI x1, vI x2, vI x3, vI x4, vI x5] [vR 1 0, vI s1, vR 13000 0] M Q ↔ (((0 : Int) ≤ s1 ∧ s1 < bLen 0) ∧ bd (mset M 13000 0 s1 (w8 (w8 (w32 (M 13 0 1 - 8))))) fun M1 => Bq 33 de_33 (List.drop 64 bk_33_3) [vR 1 0, vI x1, vI x2, vI x3, vI x4, vI x5] [] M1 Q) from Iff.rfl).trans (by simp only [t33_3_c64])
theorem t33_3_c52 {x1 x2 x3 x4 x5 s0 s1 : Int} {M : Mem} {Q : AR → Mem → Prop} : Bq 33 de_33 (List.drop 52 bk_33_3) [vR 1 0, vI x1, vI x2, vI x3, vI x4, vI x5] [vI s0, vI s1, vR 13 0, vR 15 0] M Q ↔ (Tq 132 0 [vR 15 0, vR 13 0, vI s1, vI s0, vJ] [] M (kV fun M1 => ((0 : Int) ≤ 7 ∧ (7 : Int) < bLen 0) ∧ bd (mset M1 13000 0 7 (w8 (w8 (w32 (M1 13 0 1 - 8))))) fun M2 => Tq 115 0 [vR 13 0, vI 0, vI (M2 13 0 1), vJ, vJ] [] M2 (kI fun v1 M3 => Tq 111 0 [vR 13 0, vI v1] [] M3 (kV fun M4 => Q (.inl (some (vI (M4 13 0 1)))) M4)))) :=
  (show Bq 33 de_33 (List.drop 52 bk_33_3) [vR 1 0, vI x1, vI x2, vI x3, vI x4, vI x5] [vI s0, vI s1, vR 13 0, vR 15 0] M Q ↔ (Tq 132 0 [vR 15 0, vR 13 0, vI s1, vI s0, vJ] [] M (kV fun M1 => Bq 33 de_33 (List.drop 58 bk_33_3) [vR 1 0, vI x1, vI x2, vI x3, vI x4, vI x5] [vR 1 0, vI 7, vR 13000 0] M1 Q)) from Iff.rfl).trans (by simp only [t33_3_c58])
theorem t33_3_c46 {x1 x2 x3 x4 x5 : Int} {M : Mem} {Q : AR → Mem → Prop} : Bq 33 de_33 (List.drop 46 bk_33_3) [vR 1 0, vI x1, vI x2, vI x3, vI x4, vI x5] [] M Q ↔ (Tq 132 0 [vR 15 0, vR 13 0, vI x4, vI x3, vJ] [] M (kV fun M1 => ((0 : Int) ≤ 7 ∧ (7 : Int) < bLen 0) ∧ bd (mset M1 13000 0 7 (w8 (w8 (w32 (M1 13 0 1 - 8))))) fun M2 => Tq 115 0 [vR 13 0, vI 0, vI (M2 13 0 1), vJ, vJ] [] M2 (kI fun v1 M3 => Tq 111 0 [vR 13 0, vI v1] [] M3 (kV fun M4 => Q (.inl (some (vI (M4 13 0 1)))) M4)))) :=
  (show Bq 33 de_33 (List.drop 46 bk_33_3) [vR 1 0, vI x1, vI x2, vI x3, vI x4, vI x5] [] M Q ↔ (Bq 33 de_33 (List.drop 52 bk_33_3) [vR 1 0, vI x1, vI x2, vI x3, vI x4, vI x5] [vI x3, vI x4, vR 13 0, vR 15 0] M Q) from Iff.rfl).trans (by simp only [t33_3_c52])
theorem t33_3_c42 {x1 x2 x3 x4 x5 : Int} {M : Mem} {Q : AR → Mem → Prop} : Bq 33 de_33 (List.drop 42 bk_33_3) [vR 1 0, vI x1, vI x2, vI x3, vI x4, vI x5] [] M Q ↔ (Tq 113 0 [vR 13 0, vI 0] [] M (kV fun M1 => Tq 132 0 [vR 15 0, vR 13 0, vI x4, vI x3, vJ] [] M1 (kV fun M2 => ((0 : Int) ≤ 7 ∧ (7 : Int) < bLen 0) ∧ bd (mset M2 13000 0 7 (w8 (w8 (w32 (M2 13 0 1 - 8))))) fun M3 => Tq 115 0 [vR 13 0, vI 0, vI (M3 13 0 1), vJ, vJ] [] M3 (kI fun v1 M4 => Tq 111 0 [vR 13 0, vI v1] [] M4 (kV fun M5 => Q (.inl (some (vI (M5 13 0 1)))) M5))))) :=
  (show Bq 33 de_33 (List.drop 42 bk_33_3) [vR 1 0, vI x1, vI x2, vI x3, vI x4, vI x5] [] M Q ↔ (Tq 113 0 [vR 13 0, vI 0] [] M (kV fun M1 => Bq 33 de_33 (List.drop 46 bk_33_3) [vR 1 0, vI x1, vI x2, vI x3, vI x4, vI x5] [] M1 Q)) from Iff.rfl).trans (by simp only [t33_3_c46])
theorem t33_3_c38 {x1 x2 x3 x4 x5 : Int} {M : Mem} {Q : AR → Mem → Prop} : Bq 33 de_33 (List.drop 38 bk_33_3) [vR 1 0, vI x1, vI x2, vI x3, vI x4, vI x5] [] M Q ↔ (Tq 113 0 [vR 13 0, vI x3] [] M (kV fun M1 => Tq 113 0 [vR 13 0, vI 0] [] M1 (kV fun M2 => Tq 132 0 [vR 15 0, vR 13 0, vI x4, vI x3, vJ] [] M2 (kV fun M3 => ((0 : Int) ≤ 7 ∧ (7 : Int) < bLen 0) ∧ bd (mset M3 13000 0 7 (w8 (w8 (w32 (M3 13 0 1 - 8))))) fun M4 => Tq 115 0 [vR 13 0, vI 0, vI (M4 13 0 1), vJ, vJ] [] M4 (kI fun v1 M5 => Tq 111 0 [vR 13 0, vI v1] [] M5 (kV fun M6 => Q (.inl (some (vI (M6 13 0 1)))) M6)))))) :=
  (show Bq 33 de_33 (List.drop 38 bk_33_3) [vR 1 0, vI x1, vI x2, vI x3, vI x4, vI x5] [] M Q ↔ (Tq 113 0 [vR 13 0, vI x3] [] M (kV fun M1 => Bq 33 de_33 (List.drop 42 bk_33_3) [vR 1 0, vI x1, vI x2, vI x3, vI x4, vI x5] [] M1 Q)) from Iff.rfl).trans (by simp only [t33_3_c42])
theorem t33_3_c34 {x1 x2 x3 x4 x5 : Int} {M : Mem} {Q : AR → Mem → Prop} : Bq 33 de_33 (List.drop 34 bk_33_3) [vR 1 0, vI x1, vI x2, vI x3, vI x4, vI x5] [] M Q ↔ (Tq 112 0 [vR 13 0, vI x2] [] M (kV fun M1 => Tq 113 0 [vR 13 0, vI x3] [] M1 (kV fun M2 => Tq 113 0 [vR 13 0, vI 0] [] M2 (kV fun M3 => Tq 132 0 [vR 15 0, vR 13 0, vI x4, vI x3, vJ] [] M3 (kV fun M4 => ((0 : Int) ≤ 7 ∧ (7 : Int) < bLen 0) ∧ bd (mset M4 13000 0 7 (w8 (w8 (w32 (M4 13 0 1 - 8))))) fun M5 => Tq 115 0 [vR 13 0, vI 0, vI (M5 13 0 1), vJ, vJ] [] M5 (kI fun v1 M6 => Tq 111 0 [vR 13 0, vI v1] [] M6 (kV fun M7 => Q (.inl (some (vI (M7 13 0 1)))) M7))))))) :=
  (show Bq 33 de_33 (List.drop 34 bk_33_3) [vR 1 0, vI x1, vI x2, vI x3, vI x4, vI x5] [] M Q ↔ (Tq 112 0 [vR 13 0, vI x2] [] M (kV fun M1 => Bq 33 de_33 (List.drop 38 bk_33_3) [vR 1 0, vI x1, vI x2, vI x3, vI x4, vI x5] [] M1 Q)) from Iff.rfl).trans (by simp only [t33_3_c38])
theorem t33_3_c30 {x1 x2 x3 x4 x5 : Int} {M : Mem} {Q : AR → Mem → Prop} : Bq 33 de_33 (List.drop 30 bk_33_3) [vR 1 0, vI x1, vI x2, vI x3, vI x4, vI x5] [] M Q ↔ (Tq 113 0 [vR 13 0, vI x4] [] M (kV fun M1 => Tq 112 0 [vR 13 0, vI x2] [] M1 (kV fun M2 => Tq 113 0 [vR 13 0, vI x3] [] M2 (kV fun M3 => Tq 113 0 [vR 13 0, vI 0] [] M3 (kV fun M4 => Tq 132 0 [vR 15 0, vR 13 0, vI x4, vI x3, vJ] [] M4 (kV fun M5 => ((0 : Int) ≤ 7 ∧ (7 : Int) < bLen 0) ∧ bd (mset M5 13000 0 7 (w8 (w8 (w32 (M5 13 0 1 - 8))))) fun M6 => Tq 115 0 [vR 13 0, vI 0, vI (M6 13 0 1), vJ, vJ] [] M6 (kI fun v1 M7 => Tq 111 0 [vR 13 0, vI v1] [] M7 (kV fun M8 => Q (.inl (some (vI (M8 13 0 1)))) M8)))))))) :=
  (show Bq 33 de_33 (List.drop 30 bk_33_3) [vR 1 0, vI x1, vI x2, vI x3, vI x4, vI x5] [] M Q ↔ (Tq 113 0 [vR 13 0, vI x4] [] M (kV fun M1 => Bq 33 de_33 (List.drop 34 bk_33_3) [vR 1 0, vI x1, vI x2, vI x3, vI x4, vI x5] [] M1 Q)) from Iff.rfl).trans (by simp only [t33_3_c34])
theorem t33_3_c26 {x1 x2 x3 x4 x5 : Int} {M : Mem} {Q : AR → Mem → Prop} : Bq 33 de_33 (List.drop 26 bk_33_3) [vR 1 0, vI x1, vI x2, vI x3, vI x4, vI x5] [] M Q ↔ (Tq 113 0 [vR 13 0, vI x5] [] M (kV fun M1 => Tq 113 0 [vR 13 0, vI x4] [] M1 (kV fun M2 => Tq 112 0 [vR 13 0, vI x2] [] M2 (kV fun M3 => Tq 113 0 [vR 13 0, vI x3] [] M3 (kV fun M4 => Tq 113 0 [vR 13 0, vI 0] [] M4 (kV fun M5 => Tq 132 0 [vR 15 0, vR 13 0, vI x4, vI x3, vJ] [] M5 (kV fun M6 => ((0 : Int) ≤ 7 ∧ (7 : Int) < bLen 0) ∧ bd (mset M6 13000 0 7 (w8 (w8 (w32 (M6 13 0 1 - 8))))) fun M7 => Tq 115 0 [vR 13 0, vI 0, vI (M7 13 0 1), vJ, vJ] [] M7 (kI fun v1 M8 => Tq 111 0 [vR 13 0, vI v1] [] M8 (kV fun M9 => Q (.inl (some (vI (M9 13 0 1)))) M9))))))))) :=
  (show Bq 33 de_33 (List.drop 26 bk_33_3) [vR 1 0, vI x1, vI x2, vI x3, vI x4, vI x5] [] M Q ↔ (Tq 113 0 [vR 13 0, vI x5] [] M (kV fun M1 => Bq 33 de_33 (List.drop 30 bk_33_3) [vR 1 0, vI x1, vI x2, vI x3, vI x4, vI x5] [] M1 Q)) from Iff.rfl).trans (by simp only [t33_3_c30])
theorem t33_3_c22 {x1 x2 x3 x4 x5 : Int} {M : Mem} {Q : AR → Mem → Prop} : Bq 33 de_33 (List.drop 22 bk_33_3) [vR 1 0, vI x1, vI x2, vI x3, vI x4, vI x5] [] M Q ↔ (Tq 113 0 [vR 13 0, vI x1] [] M (kV fun M1 => Tq 113 0 [vR 13 0, vI x5] [] M1 (kV fun M2 => Tq 113 0 [vR 13 0, vI x4] [] M2 (kV fun M3 => Tq 112 0 [vR 13 0, vI x2] [] M3 (kV fun M4 => Tq 113 0 [vR 13 0, vI x3] [] M4 (kV fun M5 => Tq 113 0 [vR 13 0, vI 0] [] M5 (kV fun M6 => Tq 132 0 [vR 15 0, vR 13 0, vI x4, vI x3, vJ] [] M6 (kV fun M7 => ((0 : Int) ≤ 7 ∧ (7 : Int) < bLen 0) ∧ bd (mset M7 13000 0 7 (w8 (w8 (w32 (M7 13 0 1 - 8))))) fun M8 => Tq 115 0 [vR 13 0, vI 0, vI (M8 13 0 1), vJ, vJ] [] M8 (kI fun v1 M9 => Tq 111 0 [vR 13 0, vI v1] [] M9 (kV fun M10 => Q (.inl (some (vI (M10 13 0 1)))) M10)))))))))) :=
  (show Bq 33 de_33 (List.drop 22 bk_33_3) [vR 1 0, vI x1, vI x2, vI x3, vI x4, vI x5] [] M Q ↔ (Tq 113 0 [vR 13 0, vI x1] [] M (kV fun M1 => Bq 33 de_33 (List.drop 26 bk_33_3) [vR 1 0, vI x1, vI x2, vI x3, vI x4, vI x5] [] M1 Q)) from Iff.rfl).trans (by simp only [t33_3_c26])
theorem t33_3_c20 {x1 x2 x3 x4 x5 : Int} {M : Mem} {Q : AR → Mem → Prop} : Bq 33 de_33 (List.drop 20 bk_33_3) [vR 1 0, vI x1, vI x2, vI x3, vI x4, vI x5] [vR 13 0] M Q ↔ (Tq 113 0 [vR 13 0, vI 165] [] M (kV fun M1 => Tq 113 0 [vR 13 0, vI x1] [] M1 (kV fun M2 => Tq 113 0 [vR 13 0, vI x5] [] M2 (kV fun M3 => Tq 113 0 [vR 13 0, vI x4] [] M3 (kV fun M4 => Tq 112 0 [vR 13 0, vI x2] [] M4 (kV fun M5 => Tq 113 0 [vR 13 0, vI x3] [] M5 (kV fun M6 => Tq 113 0 [vR 13 0, vI 0] [] M6 (kV fun M7 => Tq 132 0 [vR 15 0, vR 13 0, vI x4, vI x3, vJ] [] M7 (kV fun M8 => ((0 : Int) ≤ 7 ∧ (7 : Int) < bLen 0) ∧ bd (mset M8 13000 0 7 (w8 (w8 (w32 (M8 13 0 1 - 8))))) fun M9 => Tq 115 0 [vR 13 0, vI 0, vI (M9 13 0 1), vJ, vJ] [] M9 (kI fun v1 M10 => Tq 111 0 [vR 13 0, vI v1] [] M10 (kV fun M11 => Q (.inl (some (vI (M11 13 0 1)))) M11))))))))))) :=
  (show Bq 33 de_33 (List.drop 20 bk_33_3) [vR 1 0, vI x1, vI x2, vI x3, vI x4, vI x5] [vR 13 0] M Q ↔ (Tq 113 0 [vR 13 0, vI 165] [] M (kV fun M1 => Bq 33 de_33 (List.drop 22 bk_33_3) [vR 1 0, vI x1, vI x2, vI x3, vI x4, vI x5] [] M1 Q)) from Iff.rfl).trans (by simp only [t33_3_c22])
theorem t33_3_c14 {x1 x2 x3 x4 x5 : Int} {M : Mem} {Q : AR → Mem → Prop} : Bq 33 de_33 (List.drop 14 bk_33_3) [vR 1 0, vI x1, vI x2, vI x3, vI x4, vI x5] [] M Q ↔ (bd (mset M 13 0 1 0) fun M1 => Tq 113 0 [vR 13 0, vI 165] [] M1 (kV fun M2 => Tq 113 0 [vR 13 0, vI x1] [] M2 (kV fun M3 => Tq 113 0 [vR 13 0, vI x5] [] M3 (kV fun M4 => Tq 113 0 [vR 13 0, vI x4] [] M4 (kV fun M5 => Tq 112 0 [vR 13 0, vI x2] [] M5 (kV fun M6 => Tq 113 0 [vR 13 0, vI x3] [] M6 (kV fun M7 => Tq 113 0 [vR 13 0, vI 0] [] M7 (kV fun M8 => Tq 132 0 [vR 15 0, vR 13 0, vI x4, vI x3, vJ] [] M8 (kV fun M9 => ((0 : Int) ≤ 7 ∧ (7 : Int) < bLen 0) ∧ bd (mset M9 13000 0 7 (w8 (w8 (w32 (M9 13 0 1 - 8))))) fun M10 => Tq 115 0 [vR 13 0, vI 0, vI (M10 13 0 1), vJ, vJ] [] M10 (kI fun v1 M11 => Tq 111 0 [vR 13 0, vI v1] [] M11 (kV fun M12 => Q (.inl (some (vI (M12 13 0 1)))) M12))))))))))) :=
  (show Bq 33 de_33 (List.drop 14 bk_33_3) [vR 1 0, vI x1, vI x2, vI x3, vI x4, vI x5] [] M Q ↔ (bd (mset M 13 0 1 0) fun M1 => Bq 33 de_33 (List.drop 20 bk_33_3) [vR 1 0, vI x1, vI x2, vI x3, vI x4, vI x5] [vR 13 0] M1 Q) from Iff.rfl).trans (by simp only [t33_3_c20])
theorem t33_3_c12 {x1 x2 x3 x4 x5 s0 s2 : Int} {M : Mem} {Q : AR → Mem → Prop} : Bq 33 de_33 (List.drop 12 bk_33_3) [vR 1 0, vI x1, vI x2, vI x3, vI x4, vI x5] [vI s0, vR 15000 0, vI s2, vR 5003 0] M Q ↔ (((0 : Int) ≤ s2 ∧ (0 : Int) ≤ s0 ∧ (0 : Int) ≤ x3 ∧ s2 + x3 ≤ 49152 ∧ s0 + x3 ≤ 56) ∧ bd (mcpy M 5003 0 s2 15000 0 s0 x3) fun M1 => bd (mset M1 13 0 1 0) fun M2 => Tq 113 0 [vR 13 0, vI 165] [] M2 (kV fun M3 => Tq 113 0 [vR 13 0, vI x1] [] M3 (kV fun M4 => Tq 113 0 [vR 13 0, vI x5] [] M4 (kV fun M5 => Tq 113 0 [vR 13 0, vI x4] [] M5 (kV fun M6 => Tq 112 0 [vR 13 0, vI x2] [] M6 (kV fun M7 => Tq 113 0 [vR 13 0, vI x3] [] M7 (kV fun M8 => Tq 113 0 [vR 13 0, vI 0] [] M8 (kV fun M9 => Tq 132 0 [vR 15 0, vR 13 0, vI x4, vI x3, vJ] [] M9 (kV fun M10 => ((0 : Int) ≤ 7 ∧ (7 : Int) < bLen 0) ∧ bd (mset M10 13000 0 7 (w8 (w8 (w32 (M10 13 0 1 - 8))))) fun M11 => Tq 115 0 [vR 13 0, vI 0, vI (M11 13 0 1), vJ, vJ] [] M11 (kI fun v1 M12 => Tq 111 0 [vR 13 0, vI v1] [] M12 (kV fun M13 => Q (.inl (some (vI (M13 13 0 1)))) M13))))))))))) :=
  (show Bq 33 de_33 (List.drop 12 bk_33_3) [vR 1 0, vI x1, vI x2, vI x3, vI x4, vI x5] [vI s0, vR 15000 0, vI s2, vR 5003 0] M Q ↔ (((0 : Int) ≤ s2 ∧ (0 : Int) ≤ s0 ∧ (0 : Int) ≤ x3 ∧ s2 + x3 ≤ 49152 ∧ s0 + x3 ≤ 56) ∧ bd (mcpy M 5003 0 s2 15000 0 s0 x3) fun M1 => Bq 33 de_33 (List.drop 14 bk_33_3) [vR 1 0, vI x1, vI x2, vI x3, vI x4, vI x5] [] M1 Q) from Iff.rfl).trans (by simp only [t33_3_c14])
theorem t33_3_c6 {x1 x2 x3 x4 x5 s0 : Int} {M : Mem} {Q : AR → Mem → Prop} : Bq 33 de_33 (List.drop 6 bk_33_3) [vR 1 0, vI x1, vI x2, vI x3, vI x4, vI x5] [vI s0, vR 5003 0] M Q ↔ (((0 : Int) ≤ w32 (s0 + x2) ∧ (0 : Int) ≤ 0 ∧ (0 : Int) ≤ x3 ∧ w32 (s0 + x2) + x3 ≤ 49152 ∧ (0 : Int) + x3 ≤ 56) ∧ bd (mcpy M 5003 0 (w32 (s0 + x2)) 15000 0 0 x3) fun M1 => bd (mset M1 13 0 1 0) fun M2 => Tq 113 0 [vR 13 0, vI 165] [] M2 (kV fun M3 => Tq 113 0 [vR 13 0, vI x1] [] M3 (kV fun M4 => Tq 113 0 [vR 13 0, vI x5] [] M4 (kV fun M5 => Tq 113 0 [vR 13 0, vI x4] [] M5 (kV fun M6 => Tq 112 0 [vR 13 0, vI x2] [] M6 (kV fun M7 => Tq 113 0 [vR 13 0, vI x3] [] M7 (kV fun M8 => Tq 113 0 [vR 13 0, vI 0] [] M8 (kV fun M9 => Tq 132 0 [vR 15 0, vR 13 0, vI x4, vI x3, vJ] [] M9 (kV fun M10 => ((0 : Int) ≤ 7 ∧ (7 : Int) < bLen 0) ∧ bd (mset M10 13000 0 7 (w8 (w8 (w32 (M10 13 0 1 - 8))))) fun M11 => Tq 115 0 [vR 13 0, vI 0, vI (M11 13 0 1), vJ, vJ] [] M11 (kI fun v1 M12 => Tq 111 0 [vR 13 0, vI v1] [] M12 (kV fun M13 => Q (.inl (some (vI (M13 13 0 1)))) M13))))))))))) :=
  (show Bq 33 de_33 (List.drop 6 bk_33_3) [vR 1 0, vI x1, vI x2, vI x3, vI x4, vI x5] [vI s0, vR 5003 0] M Q ↔ (Bq 33 de_33 (List.drop 12 bk_33_3) [vR 1 0, vI x1, vI x2, vI x3, vI x4, vI x5] [vI 0, vR 15000 0, vI (w32 (s0 + x2)), vR 5003 0] M Q) from Iff.rfl).trans (by simp only [t33_3_c12])
theorem t33_3 {x1 x2 x3 x4 x5 : Int} {M : Mem} {Q : AR → Mem → Prop} : Tq 33 3 [vR 1 0, vI x1, vI x2, vI x3, vI x4, vI x5] [] M Q ↔ (((0 : Int) ≤ w32 (w32 (x1 * 4096) + x2) ∧ (0 : Int) ≤ 0 ∧ (0 : Int) ≤ x3 ∧ w32 (w32 (x1 * 4096) + x2) + x3 ≤ 49152 ∧ (0 : Int) + x3 ≤ 56) ∧ bd (mcpy M 5003 0 (w32 (w32 (x1 * 4096) + x2)) 15000 0 0 x3) fun M1 => bd (mset M1 13 0 1 0) fun M2 => Tq 113 0 [vR 13 0, vI 165] [] M2 (kV fun M3 => Tq 113 0 [vR 13 0, vI x1] [] M3 (kV fun M4 => Tq 113 0 [vR 13 0, vI x5] [] M4 (kV fun M5 => Tq 113 0 [vR 13 0, vI x4] [] M5 (kV fun M6 => Tq 112 0 [vR 13 0, vI x2] [] M6 (kV fun M7 => Tq 113 0 [vR 13 0, vI x3] [] M7 (kV fun M8 => Tq 113 0 [vR 13 0, vI 0] [] M8 (kV fun M9 => Tq 132 0 [vR 15 0, vR 13 0, vI x4, vI x3, vJ] [] M9 (kV fun M10 => ((0 : Int) ≤ 7 ∧ (7 : Int) < bLen 0) ∧ bd (mset M10 13000 0 7 (w8 (w8 (w32 (M10 13 0 1 - 8))))) fun M11 => Tq 115 0 [vR 13 0, vI 0, vI (M11 13 0 1), vJ, vJ] [] M11 (kI fun v1 M12 => Tq 111 0 [vR 13 0, vI v1] [] M12 (kV fun M13 => Q (.inl (some (vI (M13 13 0 1)))) M13))))))))))) :=
  (show Tq 33 3 [vR 1 0, vI x1, vI x2, vI x3, vI x4, vI x5] [] M Q ↔ (Bq 33 de_33 (List.drop 6 bk_33_3) [vR 1 0, vI x1, vI x2, vI x3, vI x4, vI x5] [vI (w32 (x1 * 4096)), vR 5003 0] M Q) from Tq_blk (is := bk_33_3) (dd := de_33) rfl rfl).trans (by simp only [t33_3_c6])
/-- EarthOffice isTick block at 0 -/
theorem t34_0 {x0 : Int} {M : Mem} {Q : AR → Mem → Prop} : Tq 34 0 [vI x0] [] M Q ↔ (Tq 25 0 [vI x0, vI 0, vI 4095] [] M (kI fun v1 M1 => Q (.inl (some (vI (nb v1)))) M1)) :=
  Tq_blk (is := bk_34_0) (dd := de_34) rfl rfl
/-- EarthOffice known block at 0 -/
theorem t35_0 {x1 x2 : Int} {M : Mem} {Q : AR → Mem → Prop} : Tq 35 0 [vR 1 0, vI x1, vI x2] [] M Q ↔ (Tq 353 0 [vR 5 0, vI x1] [] M (kI fun v1 M1 => if v1 = 0 then Tq 35 1 [vJ, vJ, vJ] [] M1 Q else Tq 34 0 [vI x2] [] M1 (kI fun v2 M2 => if ¬ v2 = 0 then Tq 35 2 [vR 1 0, vI x1, vI x2] [] M2 Q else Tq 35 1 [vJ, vJ, vJ] [] M2 Q))) :=
  Tq_blk (is := bk_35_0) (dd := de_35) rfl rfl
/-- EarthOffice known block at 18 -/
theorem t35_1 {M : Mem} {Q : AR → Mem → Prop} : Tq 35 1 [vJ, vJ, vJ] [] M Q ↔ (Tq 35 4 [vJ, vJ, vJ] [vI (-1)] M Q) :=
  Tq_blk (is := bk_35_1) (dd := de_35) rfl rfl
/-- EarthOffice known block at 22 -/
theorem t35_2 {x1 x2 : Int} {M : Mem} {Q : AR → Mem → Prop} : Tq 35 2 [vR 1 0, vI x1, vI x2] [] M Q ↔ (Tq 355 0 [vR 5 0, vI x1, vI x2] [] M (kI fun v1 M1 => if v1 = 0 then Tq 35 3 [vJ, vJ, vJ] [] M1 Q else Tq 35 4 [vJ, vJ, vJ] [vI 1] M1 Q)) :=
  Tq_blk (is := bk_35_2) (dd := de_35) rfl rfl
/-- EarthOffice known block at 38 -/
theorem t35_3 {M : Mem} {Q : AR → Mem → Prop} : Tq 35 3 [vJ, vJ, vJ] [] M Q ↔ (Tq 35 4 [vJ, vJ, vJ] [vI 0] M Q) :=
  Tq_blk (is := bk_35_3) (dd := de_35) rfl rfl
/-- EarthOffice known block at 39 -/
theorem t35_4 {s0 : Int} {M : Mem} {Q : AR → Mem → Prop} : Tq 35 4 [vJ, vJ, vJ] [vI s0] M Q ↔ (Q (.inl (some (vI s0))) M) :=
  Tq_blk (is := bk_35_4) (dd := de_35) rfl rfl
/-- EarthOffice sample block at 0 -/
theorem t36_0 {x1 x2 : Int} {M : Mem} {Q : AR → Mem → Prop} : Tq 36 0 [vR 1 0, vI x1, vI x2] [] M Q ↔ (Tq 353 0 [vR 5 0, vI x1] [] M (kI fun v1 M1 => if v1 = 0 then Tq 36 1 [vJ, vJ, vJ] [] M1 Q else Tq 34 0 [vI x2] [] M1 (kI fun v2 M2 => if v2 = 0 then Tq 36 1 [vJ, vJ, vJ] [] M2 Q else Tq 355 0 [vR 5 0, vI x1, vI x2] [] M2 (kI fun v3 M3 => if v3 = 0 then Tq 36 1 [vJ, vJ, vJ] [] M3 Q else ((0 : Int) ≤ w32 (w32 (x1 * 4096) + x2) ∧ w32 (w32 (x1 * 4096) + x2) < 49152) ∧ Tq 36 2 [vJ, vJ, vJ] [vI (M3 5003 0 (w32 (w32 (x1 * 4096) + x2)))] M3 Q)))) :=
  Tq_blk (is := bk_36_0) (dd := de_36) rfl rfl
/-- EarthOffice sample block at 48 -/
theorem t36_1 {M : Mem} {Q : AR → Mem → Prop} : Tq 36 1 [vJ, vJ, vJ] [] M Q ↔ (Tq 36 2 [vJ, vJ, vJ] [vI 0] M Q) :=
  Tq_blk (is := bk_36_1) (dd := de_36) rfl rfl
/-- EarthOffice sample block at 49 -/
theorem t36_2 {s0 : Int} {M : Mem} {Q : AR → Mem → Prop} : Tq 36 2 [vJ, vJ, vJ] [vI s0] M Q ↔ (Q (.inl (some (vI s0))) M) :=
  Tq_blk (is := bk_36_2) (dd := de_36) rfl rfl
/-- EarthOffice gap block at 0 -/
theorem t37_0 {x1 x2 x3 : Int} {M : Mem} {Q : AR → Mem → Prop} : Tq 37 0 [vR 1 0, vI x1, vI x2, vI x3] [] M Q ↔ (Tq 353 0 [vR 5 0, vI x1] [] M (kI fun v1 M1 => if v1 = 0 then Tq 37 1 [vJ, vJ, vJ, vJ] [] M1 Q else Tq 25 0 [vI x3, vI 0, vI 1] [] M1 (kI fun v2 M2 => if ¬ v2 = 0 then Tq 37 2 [vR 1 0, vI x1, vI x2, vI x3] [] M2 Q else Tq 37 1 [vJ, vJ, vJ, vJ] [] M2 Q))) :=
  Tq_blk (is := bk_37_0) (dd := de_37) rfl rfl
/-- EarthOffice gap block at 20 -/
theorem t37_1 {M : Mem} {Q : AR → Mem → Prop} : Tq 37 1 [vJ, vJ, vJ, vJ] [] M Q ↔ (Tq 37 3 [vJ, vJ, vJ, vJ] [vI (-1)] M Q) :=
  Tq_blk (is := bk_37_1) (dd := de_37) rfl rfl
/-- EarthOffice gap block at 24 -/
theorem t37_2 {x1 x2 x3 : Int} {M : Mem} {Q : AR → Mem → Prop} : Tq 37 2 [vR 1 0, vI x1, vI x2, vI x3] [] M Q ↔ (Tq 357 0 [vR 5 0, vI x1, vI x2, vI x3, vJ, vJ, vJ] [] M (kI fun v1 M1 => Tq 37 3 [vJ, vJ, vJ, vJ] [vI v1] M1 Q)) :=
  Tq_blk (is := bk_37_2) (dd := de_37) rfl rfl
/-- EarthOffice gap block at 34 -/
theorem t37_3 {s0 : Int} {M : Mem} {Q : AR → Mem → Prop} : Tq 37 3 [vJ, vJ, vJ, vJ] [vI s0] M Q ↔ (Q (.inl (some (vI s0))) M) :=
  Tq_blk (is := bk_37_3) (dd := de_37) rfl rfl
/-- EarthOffice quality block at 0 -/
theorem t38_0 {x1 x2 : Int} {M : Mem} {Q : AR → Mem → Prop} : Tq 38 0 [vR 1 0, vI x1, vI x2] [] M Q ↔ (Tq 353 0 [vR 5 0, vI x1] [] M (kI fun v1 M1 => if v1 = 0 then Tq 38 1 [vJ, vJ, vJ] [] M1 Q else Tq 25 0 [vI x2, vI 0, vI 5] [] M1 (kI fun v2 M2 => if ¬ v2 = 0 then Tq 38 2 [vR 1 0, vI x1, vI x2] [] M2 Q else Tq 38 1 [vJ, vJ, vJ] [] M2 Q))) :=
  Tq_blk (is := bk_38_0) (dd := de_38) rfl rfl
/-- EarthOffice quality block at 20 -/
theorem t38_1 {M : Mem} {Q : AR → Mem → Prop} : Tq 38 1 [vJ, vJ, vJ] [] M Q ↔ (Q (.inl (some (vL (-1)))) M) :=
  Tq_blk (is := bk_38_1) (dd := de_38) rfl rfl
/-- EarthOffice quality block at 24 -/
theorem t38_2 {x1 x2 : Int} {M : Mem} {Q : AR → Mem → Prop} : Tq 38 2 [vR 1 0, vI x1, vI x2] [] M Q ↔ (if ¬ x2 = 0 then Tq 38 3 [vR 1 0, vI x1, vI x2] [] M Q else ((0 : Int) ≤ x1 ∧ x1 < 12) ∧ Tq 38 5 [vJ, vJ, vJ] [vL (M 5001 0 x1)] M Q) :=
  Tq_blk (is := bk_38_2) (dd := de_38) rfl rfl
/-- EarthOffice quality block at 41 -/
theorem t38_3 {x1 x2 : Int} {M : Mem} {Q : AR → Mem → Prop} : Tq 38 3 [vR 1 0, vI x1, vI x2] [] M Q ↔ (if ¬ x2 = (1 : Int) then Tq 38 4 [vR 1 0, vI x1, vI x2] [] M Q else ((0 : Int) ≤ x1 ∧ x1 < 12) ∧ Tq 38 5 [vJ, vJ, vJ] [vL (M 5002 0 x1)] M Q) :=
  Tq_blk (is := bk_38_3) (dd := de_38) rfl rfl
/-- EarthOffice quality block at 59 -/
theorem t38_4 {x1 x2 : Int} {M : Mem} {Q : AR → Mem → Prop} : Tq 38 4 [vR 1 0, vI x1, vI x2] [] M Q ↔ (Tq 358 0 [vR 5 0, vI x1, vI x2, vJ, vJ, vJ, vJ, vJ, vJ] [] M (kL fun v1 M1 => Tq 38 5 [vJ, vJ, vJ] [vL v1] M1 Q)) :=
  Tq_blk (is := bk_38_4) (dd := de_38) rfl rfl
/-- EarthOffice quality block at 68 -/
theorem t38_5 {s0 : Int} {M : Mem} {Q : AR → Mem → Prop} : Tq 38 5 [vJ, vJ, vJ] [vL s0] M Q ↔ (Q (.inl (some (vL s0))) M) :=
  Tq_blk (is := bk_38_5) (dd := de_38) rfl rfl
/-- EarthOffice wave block at 0 -/
theorem t39_0 {x1 x2 x3 x4 : Int} {M : Mem} {Q : AR → Mem → Prop} : Tq 39 0 [vR 1 0, vI x1, vI x2, vI x3, vI x4, vJ] [] M Q ↔ (Tq 40 0 [vR 1 0, vI x1] [] M (kI fun v1 M1 => if v1 = 0 then Tq 39 1 [vJ, vJ, vJ, vJ, vJ, vJ] [] M1 Q else Tq 353 0 [vR 5 0, vI x2] [] M1 (kI fun v2 M2 => if v2 = 0 then Tq 39 1 [vJ, vJ, vJ, vJ, vJ, vJ] [] M2 Q else Tq 34 0 [vI x3] [] M2 (kI fun v3 M3 => if v3 = 0 then Tq 39 1 [vJ, vJ, vJ, vJ, vJ, vJ] [] M3 Q else Tq 25 0 [vI x4, vI 1, vI 512] [] M3 (kI fun v4 M4 => if v4 = 0 then Tq 39 1 [vJ, vJ, vJ, vJ, vJ, vJ] [] M4 Q else if w32 (x3 + x4) ≤ (4096 : Int) then Tq 39 2 [vR 1 0, vI x1, vI x2, vI x3, vI x4, vJ] [] M4 Q else Tq 39 1 [vJ, vJ, vJ, vJ, vJ, vJ] [] M4 Q))))) :=
  Tq_blk (is := bk_39_0) (dd := de_39) rfl rfl
/-- EarthOffice wave block at 48 -/
theorem t39_1 {M : Mem} {Q : AR → Mem → Prop} : Tq 39 1 [vJ, vJ, vJ, vJ, vJ, vJ] [] M Q ↔ (Q (.inl (some (vI (-1)))) M) :=
  Tq_blk (is := bk_39_1) (dd := de_39) rfl rfl
/-- EarthOffice wave block at 50 -/
theorem t39_2 {x1 x2 x3 x4 : Int} {M : Mem} {Q : AR → Mem → Prop} : Tq 39 2 [vR 1 0, vI x1, vI x2, vI x3, vI x4, vJ] [] M Q ↔ (Tq 354 0 [vR 5 0, vI x2, vI x3, vI x4, vJ, vJ] [] M (kI fun v1 M1 => if ¬ v1 = 0 then Tq 39 3 [vR 1 0, vI x1, vI x2, vI x3, vI x4, vJ] [] M1 Q else Q (.inl (some (vI (-2)))) M1)) :=
  Tq_blk (is := bk_39_2) (dd := de_39) rfl rfl
/-- EarthOffice wave block at 67 -/
theorem t39_3 {x1 x2 x3 x4 : Int} {M : Mem} {Q : AR → Mem → Prop} : Tq 39 3 [vR 1 0, vI x1, vI x2, vI x3, vI x4, vJ] [] M Q ↔ (((0 : Int) ≤ x1 ∧ x1 < 6) ∧ ((0 : Int) ≤ w32 (w32 (x2 * 4096) + x3) ∧ (0 : Int) ≤ 0 ∧ (0 : Int) ≤ x4 ∧ w32 (w32 (x2 * 4096) + x3) + x4 ≤ 49152 ∧ (0 : Int) + x4 ≤ 512) ∧ bd (mcpy M 5003 0 (w32 (w32 (x2 * 4096) + x3)) 17000 x1 0 x4) fun M1 => bd (mset M1 17 x1 2 x4) fun M2 => bd (mset M2 17 x1 3 x2) fun M3 => bd (mset M3 17 x1 4 x3) fun M4 => Q (.inl (some (vI x4))) M4) :=
  Tq_blk (is := bk_39_3) (dd := de_39) rfl rfl
/-- EarthOffice isWindow block at 0 -/
theorem t40_0 {x1 : Int} {M : Mem} {Q : AR → Mem → Prop} : Tq 40 0 [vR 1 0, vI x1] [] M Q ↔ (Tq 25 0 [vI x1, vI 0, vI (w32 (6 - 1))] [] M (kI fun v1 M1 => Q (.inl (some (vI (nb v1)))) M1)) :=
  Tq_blk (is := bk_40_0) (dd := de_40) rfl rfl
/-- EarthOffice smooth block at 0 -/
theorem t41_0 {x1 x2 : Int} {M : Mem} {Q : AR → Mem → Prop} : Tq 41 0 [vR 1 0, vI x1, vI x2] [] M Q ↔ (Tq 40 0 [vR 1 0, vI x1] [] M (kI fun v1 M1 => if v1 = 0 then Tq 41 1 [vJ, vJ, vJ] [] M1 Q else Tq 25 0 [vI x2, vI 1, vI 512] [] M1 (kI fun v2 M2 => if ¬ v2 = 0 then Tq 41 2 [vR 1 0, vI x1, vI x2] [] M2 Q else Tq 41 1 [vJ, vJ, vJ] [] M2 Q))) :=
  Tq_blk (is := bk_41_0) (dd := de_41) rfl rfl
/-- EarthOffice smooth block at 19 -/
theorem t41_1 {M : Mem} {Q : AR → Mem → Prop} : Tq 41 1 [vJ, vJ, vJ] [] M Q ↔ (Q (.inl (some (vI (-1)))) M) :=
  Tq_blk (is := bk_41_1) (dd := de_41) rfl rfl
/-- EarthOffice smooth block at 21 -/
theorem t41_2 {x1 x2 : Int} {M : Mem} {Q : AR → Mem → Prop} : Tq 41 2 [vR 1 0, vI x1, vI x2] [] M Q ↔ (((0 : Int) ≤ x1 ∧ x1 < 6) ∧ if ¬ M 17 x1 2 = 0 then Tq 41 3 [vR 1 0, vI x1, vI x2] [] M Q else Q (.inl (some (vI (-2)))) M) :=
  Tq_blk (is := bk_41_2) (dd := de_41) rfl rfl
/-- EarthOffice smooth block at 36 -/
theorem t41_3 {x1 x2 : Int} {M : Mem} {Q : AR → Mem → Prop} : Tq 41 3 [vR 1 0, vI x1, vI x2] [] M Q ↔ (((0 : Int) ≤ x1 ∧ x1 < 6) ∧ Tq 138 0 [vR 17 x1, vI x2, vJ, vJ, vJ] [] M (kV fun M1 => Q (.inl (some (vI 0))) M1)) :=
  Tq_blk (is := bk_41_3) (dd := de_41) rfl rfl
/-- EarthOffice differ block at 0 -/
theorem t42_0 {x1 : Int} {M : Mem} {Q : AR → Mem → Prop} : Tq 42 0 [vR 1 0, vI x1] [] M Q ↔ (Tq 40 0 [vR 1 0, vI x1] [] M (kI fun v1 M1 => if ¬ v1 = 0 then Tq 42 1 [vR 1 0, vI x1] [] M1 Q else Q (.inl (some (vI (-1)))) M1)) :=
  Tq_blk (is := bk_42_0) (dd := de_42) rfl rfl
/-- EarthOffice differ block at 10 -/
theorem t42_1 {x1 : Int} {M : Mem} {Q : AR → Mem → Prop} : Tq 42 1 [vR 1 0, vI x1] [] M Q ↔ (((0 : Int) ≤ x1 ∧ x1 < 6) ∧ if ¬ M 17 x1 2 = 0 then Tq 42 2 [vR 1 0, vI x1] [] M Q else Q (.inl (some (vI (-2)))) M) :=
  Tq_blk (is := bk_42_1) (dd := de_42) rfl rfl
/-- EarthOffice differ block at 25 -/
theorem t42_2 {x1 : Int} {M : Mem} {Q : AR → Mem → Prop} : Tq 42 2 [vR 1 0, vI x1] [] M Q ↔ (((0 : Int) ≤ x1 ∧ x1 < 6) ∧ Tq 140 0 [vR 17 x1, vJ] [] M (kV fun M1 => Q (.inl (some (vI 0))) M1)) :=
  Tq_blk (is := bk_42_2) (dd := de_42) rfl rfl
/-- EarthOffice capped block at 0 -/
theorem t43_0 {x0 : Int} {M : Mem} {Q : AR → Mem → Prop} : Tq 43 0 [vL x0, vJ] [] M Q ↔ (Tq 11 0 [vL 1073741824, vJ, vL x0, vJ] [] M (kL fun v1 M1 => Tq 12 0 [vL (-1073741824), vJ, vL v1, vJ] [] M1 (kL fun v2 M2 => Q (.inl (some (vI (w32 v2)))) M2))) :=
  Tq_blk (is := bk_43_0) (dd := de_43) rfl rfl
/-- EarthOffice filter block at 0 -/
theorem t44_0 {x1 x2 x3 x4 x5 x6 : Int} {M : Mem} {Q : AR → Mem → Prop} : Tq 44 0 [vR 1 0, vI x1, vI x2, vI x3, vI x4, vI x5, vI x6] [] M Q ↔ (Tq 40 0 [vR 1 0, vI x1] [] M (kI fun v1 M1 => if v1 = 0 then Tq 44 1 [vJ, vJ, vJ, vJ, vJ, vJ, vJ] [] M1 Q else Tq 45 0 [vI x2] [] M1 (kI fun v2 M2 => if v2 = 0 then Tq 44 1 [vJ, vJ, vJ, vJ, vJ, vJ, vJ] [] M2 Q else Tq 45 0 [vI x3] [] M2 (kI fun v3 M3 => if v3 = 0 then Tq 44 1 [vJ, vJ, vJ, vJ, vJ, vJ, vJ] [] M3 Q else Tq 45 0 [vI x4] [] M3 (kI fun v4 M4 => if v4 = 0 then Tq 44 1 [vJ, vJ, vJ, vJ, vJ, vJ, vJ] [] M4 Q else Tq 45 0 [vI x5] [] M4 (kI fun v5 M5 => if v5 = 0 then Tq 44 1 [vJ, vJ, vJ, vJ, vJ, vJ, vJ] [] M5 Q else Tq 45 0 [vI x6] [] M5 (kI fun v6 M6 => if ¬ v6 = 0 then Tq 44 2 [vR 1 0, vI x1, vI x2, vI x3, vI x4, vI x5, vI x6] [] M6 Q else Tq 44 1 [vJ, vJ, vJ, vJ, vJ, vJ, vJ] [] M6 Q))))))) :=
  Tq_blk (is := bk_44_0) (dd := de_44) rfl rfl
/-- EarthOffice filter block at 46 -/
theorem t44_1 {M : Mem} {Q : AR → Mem → Prop} : Tq 44 1 [vJ, vJ, vJ, vJ, vJ, vJ, vJ] [] M Q ↔ (Q (.inl (some (vI (-1)))) M) :=
  Tq_blk (is := bk_44_1) (dd := de_44) rfl rfl
/-- EarthOffice filter block at 48 -/
theorem t44_2 {x1 x2 x3 x4 x5 x6 : Int} {M : Mem} {Q : AR → Mem → Prop} : Tq 44 2 [vR 1 0, vI x1, vI x2, vI x3, vI x4, vI x5, vI x6] [] M Q ↔ (((0 : Int) ≤ x1 ∧ x1 < 6) ∧ if ¬ M 17 x1 2 = 0 then Tq 44 3 [vR 1 0, vI x1, vI x2, vI x3, vI x4, vI x5, vI x6] [] M Q else Q (.inl (some (vI (-2)))) M) :=
  Tq_blk (is := bk_44_2) (dd := de_44) rfl rfl
/-- EarthOffice filter block at 63 -/
theorem t44_3 {x1 x2 x3 x4 x5 x6 : Int} {M : Mem} {Q : AR → Mem → Prop} : Tq 44 3 [vR 1 0, vI x1, vI x2, vI x3, vI x4, vI x5, vI x6] [] M Q ↔ (((0 : Int) ≤ x1 ∧ x1 < 6) ∧ Tq 141 0 [vR 17 x1, vI x2, vI x3, vI x4, vI x5, vI x6, vJ, vJ, vJ] [] M (kV fun M1 => Q (.inl (some (vI 0))) M1)) :=
  Tq_blk (is := bk_44_3) (dd := de_44) rfl rfl
/-- EarthOffice isFactor block at 0 -/
theorem t45_0 {x0 : Int} {M : Mem} {Q : AR → Mem → Prop} : Tq 45 0 [vI x0] [] M Q ↔ (Tq 25 0 [vI x0, vI (-65536), vI 65536] [] M (kI fun v1 M1 => Q (.inl (some (vI (nb v1)))) M1)) :=
  Tq_blk (is := bk_45_0) (dd := de_45) rfl rfl
/-- EarthOffice resample block at 0 -/
theorem t46_0 {x1 x2 x3 : Int} {M : Mem} {Q : AR → Mem → Prop} : Tq 46 0 [vR 1 0, vI x1, vI x2, vI x3, vJ, vJ] [] M Q ↔ (Tq 40 0 [vR 1 0, vI x1] [] M (kI fun v1 M1 => if v1 = 0 then Tq 46 1 [vJ, vJ, vJ, vJ, vJ, vJ] [] M1 Q else Tq 25 0 [vI x2, vI 1, vI 64] [] M1 (kI fun v2 M2 => if v2 = 0 then Tq 46 1 [vJ, vJ, vJ, vJ, vJ, vJ] [] M2 Q else Tq 25 0 [vI x3, vI 1, vI 64] [] M2 (kI fun v3 M3 => if ¬ v3 = 0 then Tq 46 2 [vR 1 0, vI x1, vI x2, vI x3, vJ, vJ] [] M3 Q else Tq 46 1 [vJ, vJ, vJ, vJ, vJ, vJ] [] M3 Q)))) :=
  Tq_blk (is := bk_46_0) (dd := de_46) rfl rfl
/-- EarthOffice resample block at 28 -/
theorem t46_1 {M : Mem} {Q : AR → Mem → Prop} : Tq 46 1 [vJ, vJ, vJ, vJ, vJ, vJ] [] M Q ↔ (Q (.inl (some (vI (-1)))) M) :=
  Tq_blk (is := bk_46_1) (dd := de_46) rfl rfl
/-- EarthOffice resample block at 30 -/
theorem t46_2 {x1 x2 x3 : Int} {M : Mem} {Q : AR → Mem → Prop} : Tq 46 2 [vR 1 0, vI x1, vI x2, vI x3, vJ, vJ] [] M Q ↔ (((0 : Int) ≤ x1 ∧ x1 < 6) ∧ if ¬ M 17 x1 2 = 0 then Tq 46 3 [vJ, vJ, vI x2, vI x3, vR 17 x1, vJ] [] M Q else Q (.inl (some (vI (-2)))) M) :=
  Tq_blk (is := bk_46_2) (dd := de_46) rfl rfl
/-- EarthOffice resample block at 49 -/
theorem t46_3 {x2 x3 x4 : Int} {M : Mem} {Q : AR → Mem → Prop} : Tq 46 3 [vJ, vJ, vI x2, vI x3, vR 17 x4, vJ] [] M Q ↔ ((¬ x3 = 0) ∧ if w32 (div32 (w32 ((w32 (M 17 x4 2 - 1)) * x2)) x3 + 1) ≤ (512 : Int) then Tq 46 4 [vJ, vJ, vI x2, vI x3, vR 17 x4, vI (w32 (div32 (w32 ((w32 (M 17 x4 2 - 1)) * x2)) x3 + 1))] [] M Q else Q (.inl (some (vI (-3)))) M) :=
  Tq_blk (is := bk_46_3) (dd := de_46) rfl rfl
/-- EarthOffice resample block at 75 -/
theorem t46_4 {x2 x3 x4 x5 : Int} {M : Mem} {Q : AR → Mem → Prop} : Tq 46 4 [vJ, vJ, vI x2, vI x3, vR 17 x4, vI x5] [] M Q ↔ (Tq 143 0 [vR 17 x4, vI x2, vI x3, vI x5, vJ, vJ, vJ, vJ] [] M (kV fun M1 => Q (.inl (some (vI x5))) M1)) :=
  Tq_blk (is := bk_46_4) (dd := de_46) rfl rfl
/-- EarthOffice value block at 0 -/
theorem t47_0 {x1 x2 : Int} {M : Mem} {Q : AR → Mem → Prop} : Tq 47 0 [vR 1 0, vI x1, vI x2] [] M Q ↔ (Tq 40 0 [vR 1 0, vI x1] [] M (kI fun v1 M1 => if v1 = 0 then Tq 47 1 [vJ, vJ, vJ] [] M1 Q else ((0 : Int) ≤ x1 ∧ x1 < 6) ∧ Tq 25 0 [vI x2, vI 0, vI (w32 (M1 17 x1 2 - 1))] [] M1 (kI fun v2 M2 => if v2 = 0 then Tq 47 1 [vJ, vJ, vJ] [] M2 Q else ((0 : Int) ≤ x1 ∧ x1 < 6) ∧ ((0 : Int) ≤ x2 ∧ x2 < 512) ∧ Tq 47 2 [vJ, vJ, vJ] [vI (M2 17000 x1 x2)] M2 Q))) :=
  Tq_blk (is := bk_47_0) (dd := de_47) rfl rfl
/-- EarthOffice value block at 41 -/
theorem t47_1 {M : Mem} {Q : AR → Mem → Prop} : Tq 47 1 [vJ, vJ, vJ] [] M Q ↔ (Tq 47 2 [vJ, vJ, vJ] [vI (-99999999)] M Q) :=
  Tq_blk (is := bk_47_1) (dd := de_47) rfl rfl
/-- EarthOffice value block at 44 -/
theorem t47_2 {s0 : Int} {M : Mem} {Q : AR → Mem → Prop} : Tq 47 2 [vJ, vJ, vJ] [vI s0] M Q ↔ (Q (.inl (some (vI s0))) M) :=
  Tq_blk (is := bk_47_2) (dd := de_47) rfl rfl
/-- EarthOffice window block at 0 -/
theorem t48_0 {x1 x2 : Int} {M : Mem} {Q : AR → Mem → Prop} : Tq 48 0 [vR 1 0, vI x1, vI x2, vJ] [] M Q ↔ (Tq 40 0 [vR 1 0, vI x1] [] M (kI fun v1 M1 => if v1 = 0 then Tq 48 1 [vJ, vJ, vJ, vJ] [] M1 Q else Tq 25 0 [vI x2, vI 0, vI 2] [] M1 (kI fun v2 M2 => if ¬ v2 = 0 then Tq 48 2 [vR 1 0, vI x1, vI x2, vJ] [] M2 Q else Tq 48 1 [vJ, vJ, vJ, vJ] [] M2 Q))) :=
  Tq_blk (is := bk_48_0) (dd := de_48) rfl rfl
/-- EarthOffice window block at 17 -/
theorem t48_1 {M : Mem} {Q : AR → Mem → Prop} : Tq 48 1 [vJ, vJ, vJ, vJ] [] M Q ↔ (Q (.inl (some (vI (-1)))) M) :=
  Tq_blk (is := bk_48_1) (dd := de_48) rfl rfl
/-- EarthOffice window block at 19 -/
theorem t48_2 {x1 x2 : Int} {M : Mem} {Q : AR → Mem → Prop} : Tq 48 2 [vR 1 0, vI x1, vI x2, vJ] [] M Q ↔ (((0 : Int) ≤ x1 ∧ x1 < 6) ∧ if ¬ x2 = 0 then Tq 48 3 [vJ, vJ, vI x2, vR 17 x1] [] M Q else Tq 48 7 [vJ, vJ, vJ, vJ] [vI (M 17 x1 2)] M Q) :=
  Tq_blk (is := bk_48_2) (dd := de_48) rfl rfl
/-- EarthOffice window block at 37 -/
theorem t48_3 {x2 x3 : Int} {M : Mem} {Q : AR → Mem → Prop} : Tq 48 3 [vJ, vJ, vI x2, vR 17 x3] [] M Q ↔ (if M 17 x3 2 = 0 then Tq 48 4 [vJ, vJ, vJ, vJ] [] M Q else if ¬ M 17 x3 3 = (-99999999) then Tq 48 5 [vJ, vJ, vI x2, vR 17 x3] [] M Q else Tq 48 4 [vJ, vJ, vJ, vJ] [] M Q) :=
  Tq_blk (is := bk_48_3) (dd := de_48) rfl rfl
/-- EarthOffice window block at 54 -/
theorem t48_4 {M : Mem} {Q : AR → Mem → Prop} : Tq 48 4 [vJ, vJ, vJ, vJ] [] M Q ↔ (Tq 48 7 [vJ, vJ, vJ, vJ] [vI (-99999999)] M Q) :=
  Tq_blk (is := bk_48_4) (dd := de_48) rfl rfl
/-- EarthOffice window block at 60 -/
theorem t48_5 {x2 x3 : Int} {M : Mem} {Q : AR → Mem → Prop} : Tq 48 5 [vJ, vJ, vI x2, vR 17 x3] [] M Q ↔ (if ¬ x2 = (1 : Int) then Tq 48 6 [vJ, vJ, vJ, vR 17 x3] [] M Q else Tq 48 7 [vJ, vJ, vJ, vJ] [vI (M 17 x3 3)] M Q) :=
  Tq_blk (is := bk_48_5) (dd := de_48) rfl rfl
/-- EarthOffice window block at 72 -/
theorem t48_6 {x3 : Int} {M : Mem} {Q : AR → Mem → Prop} : Tq 48 6 [vJ, vJ, vJ, vR 17 x3] [] M Q ↔ (Tq 48 7 [vJ, vJ, vJ, vJ] [vI (M 17 x3 4)] M Q) :=
  Tq_blk (is := bk_48_6) (dd := de_48) rfl rfl
/-- EarthOffice window block at 76 -/
theorem t48_7 {s0 : Int} {M : Mem} {Q : AR → Mem → Prop} : Tq 48 7 [vJ, vJ, vJ, vJ] [vI s0] M Q ↔ (Q (.inl (some (vI s0))) M) :=
  Tq_blk (is := bk_48_7) (dd := de_48) rfl rfl
/-- EarthOffice correlate block at 0 -/
theorem t49_0_c15 {x1 x2 x3 x4 x6 : Int} {M : Mem} {Q : AR → Mem → Prop} : Bq 49 de_49 (List.drop 15 bk_49_0) [vR 1 0, vI x1, vI x2, vI x3, vL x4, vJ, vR 17 x6, vJ, vJ, vJ, vJ] [] M Q ↔ (((0 : Int) ≤ x2 ∧ x2 < 6) ∧ Tq 49 1 [vJ, vJ, vJ, vI x3, vL x4, vJ, vR 17 x6, vR 17 x2, vI 0, vJ, vJ] [] M Q) :=
  Iff.rfl
theorem t49_0_c9 {x1 x2 x3 x4 s0 : Int} {M : Mem} {Q : AR → Mem → Prop} : Bq 49 de_49 (List.drop 9 bk_49_0) [vR 1 0, vI x1, vI x2, vI x3, vL x4, vJ, vJ, vJ, vJ, vJ, vJ] [vI s0] M Q ↔ (if s0 = 0 then Tq 49 4 [vJ, vJ, vJ, vJ, vL x4, vJ, vJ, vJ, vJ, vJ, vJ] [] M Q else ((0 : Int) ≤ x1 ∧ x1 < 6) ∧ ((0 : Int) ≤ x2 ∧ x2 < 6) ∧ Tq 49 1 [vJ, vJ, vJ, vI x3, vL x4, vJ, vR 17 x1, vR 17 x2, vI 0, vJ, vJ] [] M Q) :=
  (show Bq 49 de_49 (List.drop 9 bk_49_0) [vR 1 0, vI x1, vI x2, vI x3, vL x4, vJ, vJ, vJ, vJ, vJ, vJ] [vI s0] M Q ↔ (if s0 = 0 then Tq 49 4 [vJ, vJ, vJ, vJ, vL x4, vJ, vJ, vJ, vJ, vJ, vJ] [] M Q else ((0 : Int) ≤ x1 ∧ x1 < 6) ∧ Bq 49 de_49 (List.drop 15 bk_49_0) [vR 1 0, vI x1, vI x2, vI x3, vL x4, vJ, vR 17 x1, vJ, vJ, vJ, vJ] [] M Q) from Iff.rfl).trans (by simp only [t49_0_c15])
theorem t49_0_c5 {x1 x2 x3 x4 s0 : Int} {M : Mem} {Q : AR → Mem → Prop} : Bq 49 de_49 (List.drop 5 bk_49_0) [vR 1 0, vI x1, vI x2, vI x3, vL x4, vJ, vJ, vJ, vJ, vJ, vJ] [vI s0] M Q ↔ (if s0 = 0 then Tq 49 4 [vJ, vJ, vJ, vJ, vL x4, vJ, vJ, vJ, vJ, vJ, vJ] [] M Q else Tq 40 0 [vR 1 0, vI x2] [] M (kI fun v1 M1 => if v1 = 0 then Tq 49 4 [vJ, vJ, vJ, vJ, vL x4, vJ, vJ, vJ, vJ, vJ, vJ] [] M1 Q else ((0 : Int) ≤ x1 ∧ x1 < 6) ∧ ((0 : Int) ≤ x2 ∧ x2 < 6) ∧ Tq 49 1 [vJ, vJ, vJ, vI x3, vL x4, vJ, vR 17 x1, vR 17 x2, vI 0, vJ, vJ] [] M1 Q)) :=
  (show Bq 49 de_49 (List.drop 5 bk_49_0) [vR 1 0, vI x1, vI x2, vI x3, vL x4, vJ, vJ, vJ, vJ, vJ, vJ] [vI s0] M Q ↔ (if s0 = 0 then Tq 49 4 [vJ, vJ, vJ, vJ, vL x4, vJ, vJ, vJ, vJ, vJ, vJ] [] M Q else Tq 40 0 [vR 1 0, vI x2] [] M (kI fun v1 M1 => Bq 49 de_49 (List.drop 9 bk_49_0) [vR 1 0, vI x1, vI x2, vI x3, vL x4, vJ, vJ, vJ, vJ, vJ, vJ] [vI v1] M1 Q)) from Iff.rfl).trans (by simp only [t49_0_c9])
theorem t49_0 {x1 x2 x3 : Int} {M : Mem} {Q : AR → Mem → Prop} : Tq 49 0 [vR 1 0, vI x1, vI x2, vI x3, vJ, vJ, vJ, vJ, vJ, vJ, vJ] [] M Q ↔ (Tq 40 0 [vR 1 0, vI x1] [] M (kI fun v1 M1 => if v1 = 0 then Tq 49 4 [vJ, vJ, vJ, vJ, vL 0, vJ, vJ, vJ, vJ, vJ, vJ] [] M1 Q else Tq 40 0 [vR 1 0, vI x2] [] M1 (kI fun v2 M2 => if v2 = 0 then Tq 49 4 [vJ, vJ, vJ, vJ, vL 0, vJ, vJ, vJ, vJ, vJ, vJ] [] M2 Q else ((0 : Int) ≤ x1 ∧ x1 < 6) ∧ ((0 : Int) ≤ x2 ∧ x2 < 6) ∧ Tq 49 1 [vJ, vJ, vJ, vI x3, vL 0, vJ, vR 17 x1, vR 17 x2, vI 0, vJ, vJ] [] M2 Q))) :=
  (show Tq 49 0 [vR 1 0, vI x1, vI x2, vI x3, vJ, vJ, vJ, vJ, vJ, vJ, vJ] [] M Q ↔ (Tq 40 0 [vR 1 0, vI x1] [] M (kI fun v1 M1 => Bq 49 de_49 (List.drop 5 bk_49_0) [vR 1 0, vI x1, vI x2, vI x3, vL 0, vJ, vJ, vJ, vJ, vJ, vJ] [vI v1] M1 Q)) from Tq_blk (is := bk_49_0) (dd := de_49) rfl rfl).trans (by simp only [t49_0_c5])
/-- EarthOffice correlate block at 38 -/
theorem t49_1_c32 {x3 x4 x6 x7 x8 x9 s0 s1 s2 : Int} {M : Mem} {Q : AR → Mem → Prop} : Bq 49 de_49 (List.drop 32 bk_49_1) [vJ, vJ, vJ, vI x3, vL x4, vJ, vR 17 x6, vR 17 x7, vI x8, vL x9, vJ] [vI s0, vL s1, vL s2] M Q ↔ (Tq 50 0 [vI s0] [] M (kI fun v1 M1 => Tq 49 3 [vJ, vJ, vJ, vI x3, vJ, vJ, vR 17 x6, vR 17 x7, vI x8, vJ, vJ] [vL (w64 (s1 * v1)), vL s2] M1 Q)) :=
  Iff.rfl
theorem t49_1_c26 {x3 x4 x6 x7 x8 x9 s0 s1 : Int} {M : Mem} {Q : AR → Mem → Prop} : Bq 49 de_49 (List.drop 26 bk_49_1) [vJ, vJ, vJ, vI x3, vL x4, vJ, vR 17 x6, vR 17 x7, vI x8, vL x9, vJ] [vI s0, vL s1] M Q ↔ (((0 : Int) ≤ w32 x9 ∧ w32 x9 < 512) ∧ Tq 50 0 [vI (M 17000 x7 (w32 x9))] [] M (kI fun v1 M1 => Tq 49 3 [vJ, vJ, vJ, vI x3, vJ, vJ, vR 17 x6, vR 17 x7, vI x8, vJ, vJ] [vL (w64 (s0 * v1)), vL s1] M1 Q)) :=
  (show Bq 49 de_49 (List.drop 26 bk_49_1) [vJ, vJ, vJ, vI x3, vL x4, vJ, vR 17 x6, vR 17 x7, vI x8, vL x9, vJ] [vI s0, vL s1] M Q ↔ (((0 : Int) ≤ w32 x9 ∧ w32 x9 < 512) ∧ Bq 49 de_49 (List.drop 32 bk_49_1) [vJ, vJ, vJ, vI x3, vL x4, vJ, vR 17 x6, vR 17 x7, vI x8, vL x9, vJ] [vI (M 17000 x7 (w32 x9)), vL s0, vL s1] M Q) from Iff.rfl).trans (by simp only [t49_1_c32])
theorem t49_1_c24 {x3 x4 x6 x7 x8 x9 s0 s1 s2 : Int} {M : Mem} {Q : AR → Mem → Prop} : Bq 49 de_49 (List.drop 24 bk_49_1) [vJ, vJ, vJ, vI x3, vL x4, vJ, vR 17 x6, vR 17 x7, vI x8, vL x9, vJ] [vI s0, vR 17000 s1, vL s2] M Q ↔ (((0 : Int) ≤ s0 ∧ s0 < 512) ∧ Tq 50 0 [vI (M 17000 s1 s0)] [] M (kI fun v1 M1 => ((0 : Int) ≤ w32 x9 ∧ w32 x9 < 512) ∧ Tq 50 0 [vI (M1 17000 x7 (w32 x9))] [] M1 (kI fun v2 M2 => Tq 49 3 [vJ, vJ, vJ, vI x3, vJ, vJ, vR 17 x6, vR 17 x7, vI x8, vJ, vJ] [vL (w64 (v1 * v2)), vL s2] M2 Q))) :=
  (show Bq 49 de_49 (List.drop 24 bk_49_1) [vJ, vJ, vJ, vI x3, vL x4, vJ, vR 17 x6, vR 17 x7, vI x8, vL x9, vJ] [vI s0, vR 17000 s1, vL s2] M Q ↔ (((0 : Int) ≤ s0 ∧ s0 < 512) ∧ Tq 50 0 [vI (M 17000 s1 s0)] [] M (kI fun v1 M1 => Bq 49 de_49 (List.drop 26 bk_49_1) [vJ, vJ, vJ, vI x3, vL x4, vJ, vR 17 x6, vR 17 x7, vI x8, vL x9, vJ] [vI v1, vL s2] M1 Q)) from Iff.rfl).trans (by simp only [t49_1_c26])
theorem t49_1_c18 {x3 x4 x6 x7 x8 x9 s0 s1 s2 : Int} {M : Mem} {Q : AR → Mem → Prop} : Bq 49 de_49 (List.drop 18 bk_49_1) [vJ, vJ, vJ, vI x3, vL x4, vJ, vR 17 x6, vR 17 x7, vI x8, vL x9, vJ] [vI s0, vL s1, vL s2] M Q ↔ (if 0 ≤ cmp64 s1 s0 then Tq 49 2 [vJ, vJ, vJ, vI x3, vJ, vJ, vR 17 x6, vR 17 x7, vI x8, vJ, vJ] [vL s2] M Q else ((0 : Int) ≤ x8 ∧ x8 < 512) ∧ Tq 50 0 [vI (M 17000 x6 x8)] [] M (kI fun v1 M1 => ((0 : Int) ≤ w32 x9 ∧ w32 x9 < 512) ∧ Tq 50 0 [vI (M1 17000 x7 (w32 x9))] [] M1 (kI fun v2 M2 => Tq 49 3 [vJ, vJ, vJ, vI x3, vJ, vJ, vR 17 x6, vR 17 x7, vI x8, vJ, vJ] [vL (w64 (v1 * v2)), vL s2] M2 Q))) :=
  (show Bq 49 de_49 (List.drop 18 bk_49_1) [vJ, vJ, vJ, vI x3, vL x4, vJ, vR 17 x6, vR 17 x7, vI x8, vL x9, vJ] [vI s0, vL s1, vL s2] M Q ↔ (if 0 ≤ cmp64 s1 s0 then Tq 49 2 [vJ, vJ, vJ, vI x3, vJ, vJ, vR 17 x6, vR 17 x7, vI x8, vJ, vJ] [vL s2] M Q else Bq 49 de_49 (List.drop 24 bk_49_1) [vJ, vJ, vJ, vI x3, vL x4, vJ, vR 17 x6, vR 17 x7, vI x8, vL x9, vJ] [vI x8, vR 17000 x6, vL s2] M Q) from Iff.rfl).trans (by simp only [t49_1_c24])
theorem t49_1_c12 {x3 x4 x6 x7 x8 x9 s0 s1 : Int} {M : Mem} {Q : AR → Mem → Prop} : Bq 49 de_49 (List.drop 12 bk_49_1) [vJ, vJ, vJ, vI x3, vL x4, vJ, vR 17 x6, vR 17 x7, vI x8, vL x9, vJ] [vL s0, vL s1] M Q ↔ (if cmp64 s0 0 < 0 then Tq 49 2 [vJ, vJ, vJ, vI x3, vJ, vJ, vR 17 x6, vR 17 x7, vI x8, vJ, vJ] [vL s1] M Q else if 0 ≤ cmp64 x9 (M 17 x7 2) then Tq 49 2 [vJ, vJ, vJ, vI x3, vJ, vJ, vR 17 x6, vR 17 x7, vI x8, vJ, vJ] [vL s1] M Q else ((0 : Int) ≤ x8 ∧ x8 < 512) ∧ Tq 50 0 [vI (M 17000 x6 x8)] [] M (kI fun v1 M1 => ((0 : Int) ≤ w32 x9 ∧ w32 x9 < 512) ∧ Tq 50 0 [vI (M1 17000 x7 (w32 x9))] [] M1 (kI fun v2 M2 => Tq 49 3 [vJ, vJ, vJ, vI x3, vJ, vJ, vR 17 x6, vR 17 x7, vI x8, vJ, vJ] [vL (w64 (v1 * v2)), vL s1] M2 Q))) :=
  (show Bq 49 de_49 (List.drop 12 bk_49_1) [vJ, vJ, vJ, vI x3, vL x4, vJ, vR 17 x6, vR 17 x7, vI x8, vL x9, vJ] [vL s0, vL s1] M Q ↔ (if cmp64 s0 0 < 0 then Tq 49 2 [vJ, vJ, vJ, vI x3, vJ, vJ, vR 17 x6, vR 17 x7, vI x8, vJ, vJ] [vL s1] M Q else Bq 49 de_49 (List.drop 18 bk_49_1) [vJ, vJ, vJ, vI x3, vL x4, vJ, vR 17 x6, vR 17 x7, vI x8, vL x9, vJ] [vI (M 17 x7 2), vL x9, vL s1] M Q) from Iff.rfl).trans (by simp only [t49_1_c18])
theorem t49_1_c6 {x3 x4 x6 x7 x8 s0 : Int} {M : Mem} {Q : AR → Mem → Prop} : Bq 49 de_49 (List.drop 6 bk_49_1) [vJ, vJ, vJ, vI x3, vL x4, vJ, vR 17 x6, vR 17 x7, vI x8, vJ, vJ] [vL s0] M Q ↔ (if cmp64 (w64 (s0 + x3)) 0 < 0 then Tq 49 2 [vJ, vJ, vJ, vI x3, vJ, vJ, vR 17 x6, vR 17 x7, vI x8, vJ, vJ] [vL x4] M Q else if 0 ≤ cmp64 (w64 (s0 + x3)) (M 17 x7 2) then Tq 49 2 [vJ, vJ, vJ, vI x3, vJ, vJ, vR 17 x6, vR 17 x7, vI x8, vJ, vJ] [vL x4] M Q else ((0 : Int) ≤ x8 ∧ x8 < 512) ∧ Tq 50 0 [vI (M 17000 x6 x8)] [] M (kI fun v1 M1 => ((0 : Int) ≤ w32 (w64 (s0 + x3)) ∧ w32 (w64 (s0 + x3)) < 512) ∧ Tq 50 0 [vI (M1 17000 x7 (w32 (w64 (s0 + x3))))] [] M1 (kI fun v2 M2 => Tq 49 3 [vJ, vJ, vJ, vI x3, vJ, vJ, vR 17 x6, vR 17 x7, vI x8, vJ, vJ] [vL (w64 (v1 * v2)), vL x4] M2 Q))) :=
  (show Bq 49 de_49 (List.drop 6 bk_49_1) [vJ, vJ, vJ, vI x3, vL x4, vJ, vR 17 x6, vR 17 x7, vI x8, vJ, vJ] [vL s0] M Q ↔ (Bq 49 de_49 (List.drop 12 bk_49_1) [vJ, vJ, vJ, vI x3, vL x4, vJ, vR 17 x6, vR 17 x7, vI x8, vL (w64 (s0 + x3)), vJ] [vL (w64 (s0 + x3)), vL x4] M Q) from Iff.rfl).trans (by simp only [t49_1_c12])
theorem t49_1 {x3 x4 x6 x7 x8 : Int} {M : Mem} {Q : AR → Mem → Prop} : Tq 49 1 [vJ, vJ, vJ, vI x3, vL x4, vJ, vR 17 x6, vR 17 x7, vI x8, vJ, vJ] [] M Q ↔ (if M 17 x6 2 ≤ x8 then Tq 49 4 [vJ, vJ, vJ, vJ, vL x4, vJ, vJ, vJ, vJ, vJ, vJ] [] M Q else if cmp64 (w64 (x8 + x3)) 0 < 0 then Tq 49 2 [vJ, vJ, vJ, vI x3, vJ, vJ, vR 17 x6, vR 17 x7, vI x8, vJ, vJ] [vL x4] M Q else if 0 ≤ cmp64 (w64 (x8 + x3)) (M 17 x7 2) then Tq 49 2 [vJ, vJ, vJ, vI x3, vJ, vJ, vR 17 x6, vR 17 x7, vI x8, vJ, vJ] [vL x4] M Q else ((0 : Int) ≤ x8 ∧ x8 < 512) ∧ Tq 50 0 [vI (M 17000 x6 x8)] [] M (kI fun v1 M1 => ((0 : Int) ≤ w32 (w64 (x8 + x3)) ∧ w32 (w64 (x8 + x3)) < 512) ∧ Tq 50 0 [vI (M1 17000 x7 (w32 (w64 (x8 + x3))))] [] M1 (kI fun v2 M2 => Tq 49 3 [vJ, vJ, vJ, vI x3, vJ, vJ, vR 17 x6, vR 17 x7, vI x8, vJ, vJ] [vL (w64 (v1 * v2)), vL x4] M2 Q))) :=
  (show Tq 49 1 [vJ, vJ, vJ, vI x3, vL x4, vJ, vR 17 x6, vR 17 x7, vI x8, vJ, vJ] [] M Q ↔ (if M 17 x6 2 ≤ x8 then Tq 49 4 [vJ, vJ, vJ, vJ, vL x4, vJ, vJ, vJ, vJ, vJ, vJ] [] M Q else Bq 49 de_49 (List.drop 6 bk_49_1) [vJ, vJ, vJ, vI x3, vL x4, vJ, vR 17 x6, vR 17 x7, vI x8, vJ, vJ] [vL x8] M Q) from Tq_blk (is := bk_49_1) (dd := de_49) rfl rfl).trans (by simp only [t49_1_c6])
/-- EarthOffice correlate block at 106 -/
theorem t49_2 {x3 x6 x7 x8 s0 : Int} {M : Mem} {Q : AR → Mem → Prop} : Tq 49 2 [vJ, vJ, vJ, vI x3, vJ, vJ, vR 17 x6, vR 17 x7, vI x8, vJ, vJ] [vL s0] M Q ↔ (Tq 49 3 [vJ, vJ, vJ, vI x3, vJ, vJ, vR 17 x6, vR 17 x7, vI x8, vJ, vJ] [vL 0, vL s0] M Q) :=
  Tq_blk (is := bk_49_2) (dd := de_49) rfl rfl
/-- EarthOffice correlate block at 107 -/
theorem t49_3 {x3 x6 x7 x8 s0 s1 : Int} {M : Mem} {Q : AR → Mem → Prop} : Tq 49 3 [vJ, vJ, vJ, vI x3, vJ, vJ, vR 17 x6, vR 17 x7, vI x8, vJ, vJ] [vL s0, vL s1] M Q ↔ (Tq 49 1 [vJ, vJ, vJ, vI x3, vL (w64 (s1 + s0)), vJ, vR 17 x6, vR 17 x7, vI (w32 (x8 + 1)), vJ, vJ] [] M Q) :=
  Tq_blk (is := bk_49_3) (dd := de_49) rfl rfl
/-- EarthOffice correlate block at 116 -/
theorem t49_4 {x4 : Int} {M : Mem} {Q : AR → Mem → Prop} : Tq 49 4 [vJ, vJ, vJ, vJ, vL x4, vJ, vJ, vJ, vJ, vJ, vJ] [] M Q ↔ (Q (.inl (some (vL x4))) M) :=
  Tq_blk (is := bk_49_4) (dd := de_49) rfl rfl
/-- EarthOffice clipped block at 0 -/
theorem t50_0 {x0 : Int} {M : Mem} {Q : AR → Mem → Prop} : Tq 50 0 [vI x0] [] M Q ↔ (Tq 8 0 [vI 1048576, vI x0] [] M (kI fun v1 M1 => Tq 9 0 [vI (-1048576), vI v1] [] M1 (kI fun v2 M2 => Q (.inl (some (vI v2))) M2))) :=
  Tq_blk (is := bk_50_0) (dd := de_50) rfl rfl
/-- EarthOffice pick block at 0 -/
theorem t51_0_c12 {x1 x2 x3 x4 x5 x6 x7 s0 : Int} {M : Mem} {Q : AR → Mem → Prop} : Bq 51 de_51 (List.drop 12 bk_51_0) [vR 1 0, vI x1, vI x2, vI x3, vI x4, vI x5, vI x6, vI x7, vJ, vJ, vJ] [vI s0] M Q ↔ (if ¬ s0 = 0 then Tq 51 2 [vR 1 0, vI x1, vI x2, vI x3, vI x4, vI x5, vI x6, vI x7, vJ, vJ, vJ] [] M Q else Tq 51 1 [vJ, vJ, vJ, vJ, vJ, vJ, vJ, vJ, vJ, vJ, vJ] [] M Q) :=
  Iff.rfl
theorem t51_0_c8 {x1 x2 x3 x4 x5 x6 x7 s0 : Int} {M : Mem} {Q : AR → Mem → Prop} : Bq 51 de_51 (List.drop 8 bk_51_0) [vR 1 0, vI x1, vI x2, vI x3, vI x4, vI x5, vI x6, vI x7, vJ, vJ, vJ] [vI s0] M Q ↔ (if s0 = 0 then Tq 51 1 [vJ, vJ, vJ, vJ, vJ, vJ, vJ, vJ, vJ, vJ, vJ] [] M Q else Tq 52 0 [vI x6, vI x7] [] M (kI fun v1 M1 => if ¬ v1 = 0 then Tq 51 2 [vR 1 0, vI x1, vI x2, vI x3, vI x4, vI x5, vI x6, vI x7, vJ, vJ, vJ] [] M1 Q else Tq 51 1 [vJ, vJ, vJ, vJ, vJ, vJ, vJ, vJ, vJ, vJ, vJ] [] M1 Q)) :=
  (show Bq 51 de_51 (List.drop 8 bk_51_0) [vR 1 0, vI x1, vI x2, vI x3, vI x4, vI x5, vI x6, vI x7, vJ, vJ, vJ] [vI s0] M Q ↔ (if s0 = 0 then Tq 51 1 [vJ, vJ, vJ, vJ, vJ, vJ, vJ, vJ, vJ, vJ, vJ] [] M Q else Tq 52 0 [vI x6, vI x7] [] M (kI fun v1 M1 => Bq 51 de_51 (List.drop 12 bk_51_0) [vR 1 0, vI x1, vI x2, vI x3, vI x4, vI x5, vI x6, vI x7, vJ, vJ, vJ] [vI v1] M1 Q)) from Iff.rfl).trans (by simp only [t51_0_c12])
theorem t51_0_c3 {x1 x2 x3 x4 x5 x6 x7 s0 : Int} {M : Mem} {Q : AR → Mem → Prop} : Bq 51 de_51 (List.drop 3 bk_51_0) [vR 1 0, vI x1, vI x2, vI x3, vI x4, vI x5, vI x6, vI x7, vJ, vJ, vJ] [vI s0] M Q ↔ (if s0 = 0 then Tq 51 1 [vJ, vJ, vJ, vJ, vJ, vJ, vJ, vJ, vJ, vJ, vJ] [] M Q else Tq 25 0 [vI x2, vI 0, vI 1] [] M (kI fun v1 M1 => if v1 = 0 then Tq 51 1 [vJ, vJ, vJ, vJ, vJ, vJ, vJ, vJ, vJ, vJ, vJ] [] M1 Q else Tq 52 0 [vI x6, vI x7] [] M1 (kI fun v2 M2 => if ¬ v2 = 0 then Tq 51 2 [vR 1 0, vI x1, vI x2, vI x3, vI x4, vI x5, vI x6, vI x7, vJ, vJ, vJ] [] M2 Q else Tq 51 1 [vJ, vJ, vJ, vJ, vJ, vJ, vJ, vJ, vJ, vJ, vJ] [] M2 Q))) :=
  (show Bq 51 de_51 (List.drop 3 bk_51_0) [vR 1 0, vI x1, vI x2, vI x3, vI x4, vI x5, vI x6, vI x7, vJ, vJ, vJ] [vI s0] M Q ↔ (if s0 = 0 then Tq 51 1 [vJ, vJ, vJ, vJ, vJ, vJ, vJ, vJ, vJ, vJ, vJ] [] M Q else Tq 25 0 [vI x2, vI 0, vI 1] [] M (kI fun v1 M1 => Bq 51 de_51 (List.drop 8 bk_51_0) [vR 1 0, vI x1, vI x2, vI x3, vI x4, vI x5, vI x6, vI x7, vJ, vJ, vJ] [vI v1] M1 Q)) from Iff.rfl).trans (by simp only [t51_0_c8])
theorem t51_0 {x1 x2 x3 x4 x5 x6 x7 : Int} {M : Mem} {Q : AR → Mem → Prop} : Tq 51 0 [vR 1 0, vI x1, vI x2, vI x3, vI x4, vI x5, vI x6, vI x7, vJ, vJ, vJ] [] M Q ↔ (Tq 40 0 [vR 1 0, vI x1] [] M (kI fun v1 M1 => if v1 = 0 then Tq 51 1 [vJ, vJ, vJ, vJ, vJ, vJ, vJ, vJ, vJ, vJ, vJ] [] M1 Q else Tq 25 0 [vI x2, vI 0, vI 1] [] M1 (kI fun v2 M2 => if v2 = 0 then Tq 51 1 [vJ, vJ, vJ, vJ, vJ, vJ, vJ, vJ, vJ, vJ, vJ] [] M2 Q else Tq 52 0 [vI x6, vI x7] [] M2 (kI fun v3 M3 => if ¬ v3 = 0 then Tq 51 2 [vR 1 0, vI x1, vI x2, vI x3, vI x4, vI x5, vI x6, vI x7, vJ, vJ, vJ] [] M3 Q else Tq 51 1 [vJ, vJ, vJ, vJ, vJ, vJ, vJ, vJ, vJ, vJ, vJ] [] M3 Q)))) :=
  (show Tq 51 0 [vR 1 0, vI x1, vI x2, vI x3, vI x4, vI x5, vI x6, vI x7, vJ, vJ, vJ] [] M Q ↔ (Tq 40 0 [vR 1 0, vI x1] [] M (kI fun v1 M1 => Bq 51 de_51 (List.drop 3 bk_51_0) [vR 1 0, vI x1, vI x2, vI x3, vI x4, vI x5, vI x6, vI x7, vJ, vJ, vJ] [vI v1] M1 Q)) from Tq_blk (is := bk_51_0) (dd := de_51) rfl rfl).trans (by simp only [t51_0_c3])
/-- EarthOffice pick block at 27 -/
theorem t51_1 {M : Mem} {Q : AR → Mem → Prop} : Tq 51 1 [vJ, vJ, vJ, vJ, vJ, vJ, vJ, vJ, vJ, vJ, vJ] [] M Q ↔ (Q (.inl (some (vI (-1)))) M) :=
  Tq_blk (is := bk_51_1) (dd := de_51) rfl rfl
/-- EarthOffice pick block at 29 -/
theorem t51_2_c18 {x1 x2 x3 x4 x5 x6 x7 s0 : Int} {M : Mem} {Q : AR → Mem → Prop} : Bq 51 de_51 (List.drop 18 bk_51_2) [vR 1 0, vI x1, vI x2, vI x3, vI x4, vI x5, vI x6, vI x7, vJ, vJ, vJ] [vI s0] M Q ↔ (if ¬ s0 = 0 then Tq 51 4 [vR 1 0, vI x1, vI x2, vI x3, vI x4, vI x5, vI x6, vI x7, vJ, vJ, vJ] [] M Q else Tq 51 3 [vJ, vJ, vJ, vJ, vJ, vJ, vJ, vJ, vJ, vJ, vJ] [] M Q) :=
  Iff.rfl
theorem t51_2_c12 {x1 x2 x3 x4 x5 x6 x7 s0 s1 s2 : Int} {M : Mem} {Q : AR → Mem → Prop} : Bq 51 de_51 (List.drop 12 bk_51_2) [vR 1 0, vI x1, vI x2, vI x3, vI x4, vI x5, vI x6, vI x7, vJ, vJ, vJ] [vI s0, vI s1, vI s2] M Q ↔ (Tq 25 0 [vI s2, vI s1, vI s0] [] M (kI fun v1 M1 => if v1 = 0 then Tq 51 3 [vJ, vJ, vJ, vJ, vJ, vJ, vJ, vJ, vJ, vJ, vJ] [] M1 Q else Tq 25 0 [vI x5, vI 17, vI 256] [] M1 (kI fun v2 M2 => if ¬ v2 = 0 then Tq 51 4 [vR 1 0, vI x1, vI x2, vI x3, vI x4, vI x5, vI x6, vI x7, vJ, vJ, vJ] [] M2 Q else Tq 51 3 [vJ, vJ, vJ, vJ, vJ, vJ, vJ, vJ, vJ, vJ, vJ] [] M2 Q))) :=
  (show Bq 51 de_51 (List.drop 12 bk_51_2) [vR 1 0, vI x1, vI x2, vI x3, vI x4, vI x5, vI x6, vI x7, vJ, vJ, vJ] [vI s0, vI s1, vI s2] M Q ↔ (Tq 25 0 [vI s2, vI s1, vI s0] [] M (kI fun v1 M1 => if v1 = 0 then Tq 51 3 [vJ, vJ, vJ, vJ, vJ, vJ, vJ, vJ, vJ, vJ, vJ] [] M1 Q else Tq 25 0 [vI x5, vI 17, vI 256] [] M1 (kI fun v2 M2 => Bq 51 de_51 (List.drop 18 bk_51_2) [vR 1 0, vI x1, vI x2, vI x3, vI x4, vI x5, vI x6, vI x7, vJ, vJ, vJ] [vI v2] M2 Q))) from Iff.rfl).trans (by simp only [t51_2_c18])
theorem t51_2_c6 {x1 x2 x3 x4 x5 x6 x7 s0 : Int} {M : Mem} {Q : AR → Mem → Prop} : Bq 51 de_51 (List.drop 6 bk_51_2) [vR 1 0, vI x1, vI x2, vI x3, vI x4, vI x5, vI x6, vI x7, vJ, vJ, vJ] [vI s0] M Q ↔ (if s0 = 0 then Tq 51 3 [vJ, vJ, vJ, vJ, vJ, vJ, vJ, vJ, vJ, vJ, vJ] [] M Q else Tq 25 0 [vI x4, vI (w32 (x3 + 1)), vI 256] [] M (kI fun v1 M1 => if v1 = 0 then Tq 51 3 [vJ, vJ, vJ, vJ, vJ, vJ, vJ, vJ, vJ, vJ, vJ] [] M1 Q else Tq 25 0 [vI x5, vI 17, vI 256] [] M1 (kI fun v2 M2 => if ¬ v2 = 0 then Tq 51 4 [vR 1 0, vI x1, vI x2, vI x3, vI x4, vI x5, vI x6, vI x7, vJ, vJ, vJ] [] M2 Q else Tq 51 3 [vJ, vJ, vJ, vJ, vJ, vJ, vJ, vJ, vJ, vJ, vJ] [] M2 Q))) :=
  (show Bq 51 de_51 (List.drop 6 bk_51_2) [vR 1 0, vI x1, vI x2, vI x3, vI x4, vI x5, vI x6, vI x7, vJ, vJ, vJ] [vI s0] M Q ↔ (if s0 = 0 then Tq 51 3 [vJ, vJ, vJ, vJ, vJ, vJ, vJ, vJ, vJ, vJ, vJ] [] M Q else Bq 51 de_51 (List.drop 12 bk_51_2) [vR 1 0, vI x1, vI x2, vI x3, vI x4, vI x5, vI x6, vI x7, vJ, vJ, vJ] [vI 256, vI (w32 (x3 + 1)), vI x4] M Q) from Iff.rfl).trans (by simp only [t51_2_c12])
theorem t51_2 {x1 x2 x3 x4 x5 x6 x7 : Int} {M : Mem} {Q : AR → Mem → Prop} : Tq 51 2 [vR 1 0, vI x1, vI x2, vI x3, vI x4, vI x5, vI x6, vI x7, vJ, vJ, vJ] [] M Q ↔ (if ¬ x2 = 0 then Tq 51 4 [vR 1 0, vI x1, vI x2, vI x3, vI x4, vI x5, vI x6, vI x7, vJ, vJ, vJ] [] M Q else Tq 25 0 [vI x3, vI 1, vI 32] [] M (kI fun v1 M1 => if v1 = 0 then Tq 51 3 [vJ, vJ, vJ, vJ, vJ, vJ, vJ, vJ, vJ, vJ, vJ] [] M1 Q else Tq 25 0 [vI x4, vI (w32 (x3 + 1)), vI 256] [] M1 (kI fun v2 M2 => if v2 = 0 then Tq 51 3 [vJ, vJ, vJ, vJ, vJ, vJ, vJ, vJ, vJ, vJ, vJ] [] M2 Q else Tq 25 0 [vI x5, vI 17, vI 256] [] M2 (kI fun v3 M3 => if ¬ v3 = 0 then Tq 51 4 [vR 1 0, vI x1, vI x2, vI x3, vI x4, vI x5, vI x6, vI x7, vJ, vJ, vJ] [] M3 Q else Tq 51 3 [vJ, vJ, vJ, vJ, vJ, vJ, vJ, vJ, vJ, vJ, vJ] [] M3 Q)))) :=
  (show Tq 51 2 [vR 1 0, vI x1, vI x2, vI x3, vI x4, vI x5, vI x6, vI x7, vJ, vJ, vJ] [] M Q ↔ (if ¬ x2 = 0 then Tq 51 4 [vR 1 0, vI x1, vI x2, vI x3, vI x4, vI x5, vI x6, vI x7, vJ, vJ, vJ] [] M Q else Tq 25 0 [vI x3, vI 1, vI 32] [] M (kI fun v1 M1 => Bq 51 de_51 (List.drop 6 bk_51_2) [vR 1 0, vI x1, vI x2, vI x3, vI x4, vI x5, vI x6, vI x7, vJ, vJ, vJ] [vI v1] M1 Q)) from Tq_blk (is := bk_51_2) (dd := de_51) rfl rfl).trans (by simp only [t51_2_c6])
/-- EarthOffice pick block at 70 -/
theorem t51_3 {M : Mem} {Q : AR → Mem → Prop} : Tq 51 3 [vJ, vJ, vJ, vJ, vJ, vJ, vJ, vJ, vJ, vJ, vJ] [] M Q ↔ (Q (.inl (some (vI (-1)))) M) :=
  Tq_blk (is := bk_51_3) (dd := de_51) rfl rfl
/-- EarthOffice pick block at 72 -/
theorem t51_4_c12 {x1 x2 x3 x4 x5 x6 x7 x8 s0 : Int} {M : Mem} {Q : AR → Mem → Prop} : Bq 51 de_51 (List.drop 12 bk_51_4) [vR 1 0, vI x1, vI x2, vI x3, vI x4, vI x5, vI x6, vI x7, vR 17 x8, vJ, vJ] [vR 17 s0] M Q ↔ (if M 17 s0 2 < (8 : Int) then Tq 51 6 [vJ, vJ, vJ, vJ, vJ, vJ, vJ, vJ, vJ, vJ, vJ] [] M Q else Tq 51 5 [vR 1 0, vJ, vI x2, vI x3, vI x4, vI x5, vI x6, vI x7, vR 17 x8, vJ, vJ] [] M Q) :=
  Iff.rfl
theorem t51_4_c6 {x1 x2 x3 x4 x5 x6 x7 x8 s0 : Int} {M : Mem} {Q : AR → Mem → Prop} : Bq 51 de_51 (List.drop 6 bk_51_4) [vR 1 0, vI x1, vI x2, vI x3, vI x4, vI x5, vI x6, vI x7, vR 17 x8, vJ, vJ] [vR 17 s0] M Q ↔ (if M 17 s0 2 = 0 then Tq 51 6 [vJ, vJ, vJ, vJ, vJ, vJ, vJ, vJ, vJ, vJ, vJ] [] M Q else if ¬ x2 = (1 : Int) then Tq 51 5 [vR 1 0, vJ, vI x2, vI x3, vI x4, vI x5, vI x6, vI x7, vR 17 x8, vJ, vJ] [] M Q else if M 17 x8 2 < (8 : Int) then Tq 51 6 [vJ, vJ, vJ, vJ, vJ, vJ, vJ, vJ, vJ, vJ, vJ] [] M Q else Tq 51 5 [vR 1 0, vJ, vI x2, vI x3, vI x4, vI x5, vI x6, vI x7, vR 17 x8, vJ, vJ] [] M Q) :=
  (show Bq 51 de_51 (List.drop 6 bk_51_4) [vR 1 0, vI x1, vI x2, vI x3, vI x4, vI x5, vI x6, vI x7, vR 17 x8, vJ, vJ] [vR 17 s0] M Q ↔ (if M 17 s0 2 = 0 then Tq 51 6 [vJ, vJ, vJ, vJ, vJ, vJ, vJ, vJ, vJ, vJ, vJ] [] M Q else if ¬ x2 = (1 : Int) then Tq 51 5 [vR 1 0, vJ, vI x2, vI x3, vI x4, vI x5, vI x6, vI x7, vR 17 x8, vJ, vJ] [] M Q else Bq 51 de_51 (List.drop 12 bk_51_4) [vR 1 0, vI x1, vI x2, vI x3, vI x4, vI x5, vI x6, vI x7, vR 17 x8, vJ, vJ] [vR 17 x8] M Q) from Iff.rfl).trans (by simp only [t51_4_c12])
theorem t51_4 {x1 x2 x3 x4 x5 x6 x7 : Int} {M : Mem} {Q : AR → Mem → Prop} : Tq 51 4 [vR 1 0, vI x1, vI x2, vI x3, vI x4, vI x5, vI x6, vI x7, vJ, vJ, vJ] [] M Q ↔ (((0 : Int) ≤ x1 ∧ x1 < 6) ∧ if M 17 x1 2 = 0 then Tq 51 6 [vJ, vJ, vJ, vJ, vJ, vJ, vJ, vJ, vJ, vJ, vJ] [] M Q else if ¬ x2 = (1 : Int) then Tq 51 5 [vR 1 0, vJ, vI x2, vI x3, vI x4, vI x5, vI x6, vI x7, vR 17 x1, vJ, vJ] [] M Q else if M 17 x1 2 < (8 : Int) then Tq 51 6 [vJ, vJ, vJ, vJ, vJ, vJ, vJ, vJ, vJ, vJ, vJ] [] M Q else Tq 51 5 [vR 1 0, vJ, vI x2, vI x3, vI x4, vI x5, vI x6, vI x7, vR 17 x1, vJ, vJ] [] M Q) :=
  (show Tq 51 4 [vR 1 0, vI x1, vI x2, vI x3, vI x4, vI x5, vI x6, vI x7, vJ, vJ, vJ] [] M Q ↔ (((0 : Int) ≤ x1 ∧ x1 < 6) ∧ Bq 51 de_51 (List.drop 6 bk_51_4) [vR 1 0, vI x1, vI x2, vI x3, vI x4, vI x5, vI x6, vI x7, vR 17 x1, vJ, vJ] [vR 17 x1] M Q) from Tq_blk (is := bk_51_4) (dd := de_51) rfl rfl).trans (by simp only [t51_4_c6])
/-- EarthOffice pick block at 103 -/
theorem t51_5 {x2 x3 x4 x5 x6 x7 x8 : Int} {M : Mem} {Q : AR → Mem → Prop} : Tq 51 5 [vR 1 0, vJ, vI x2, vI x3, vI x4, vI x5, vI x6, vI x7, vR 17 x8, vJ, vJ] [] M Q ↔ (if ¬ M 17 x8 3 = (-99999999) then Tq 51 7 [vR 1 0, vJ, vI x2, vI x3, vI x4, vI x5, vI x6, vI x7, vR 17 x8, vJ, vJ] [] M Q else Tq 51 6 [vJ, vJ, vJ, vJ, vJ, vJ, vJ, vJ, vJ, vJ, vJ] [] M Q) :=
  Tq_blk (is := bk_51_5) (dd := de_51) rfl rfl
/-- EarthOffice pick block at 114 -/
theorem t51_6 {M : Mem} {Q : AR → Mem → Prop} : Tq 51 6 [vJ, vJ, vJ, vJ, vJ, vJ, vJ, vJ, vJ, vJ, vJ] [] M Q ↔ (Q (.inl (some (vI (-2)))) M) :=
  Tq_blk (is := bk_51_6) (dd := de_51) rfl rfl
/-- EarthOffice pick block at 117 -/
theorem t51_7 {x2 x3 x4 x5 x6 x7 x8 : Int} {M : Mem} {Q : AR → Mem → Prop} : Tq 51 7 [vR 1 0, vJ, vI x2, vI x3, vI x4, vI x5, vI x6, vI x7, vR 17 x8, vJ, vJ] [] M Q ↔ (if ¬ x2 = 0 then Tq 51 8 [vR 1 0, vJ, vJ, vJ, vJ, vJ, vI x6, vI x7, vR 17 x8, vJ, vJ] [] M Q else Tq 144 0 [vR 17 x8, vI x3, vI x4, vI x5, vJ, vJ, vJ, vJ, vJ, vJ, vJ] [] M (kI fun v1 M1 => Tq 51 9 [vR 1 0, vJ, vJ, vJ, vJ, vJ, vI x6, vI x7, vR 17 x8, vJ, vJ] [vI v1] M1 Q)) :=
  Tq_blk (is := bk_51_7) (dd := de_51) rfl rfl
/-- EarthOffice pick block at 134 -/
theorem t51_8 {x6 x7 x8 : Int} {M : Mem} {Q : AR → Mem → Prop} : Tq 51 8 [vR 1 0, vJ, vJ, vJ, vJ, vJ, vI x6, vI x7, vR 17 x8, vJ, vJ] [] M Q ↔ (Tq 145 0 [vR 17 x8, vJ, vJ, vJ, vJ, vJ, vJ, vJ, vJ, vJ, vJ, vJ, vJ, vJ, vJ, vJ, vJ] [] M (kI fun v1 M1 => Tq 51 9 [vR 1 0, vJ, vJ, vJ, vJ, vJ, vI x6, vI x7, vR 17 x8, vJ, vJ] [vI v1] M1 Q)) :=
  Tq_blk (is := bk_51_8) (dd := de_51) rfl rfl
/-- EarthOffice pick block at 139 -/
theorem t51_9 {x6 x7 x8 s0 : Int} {M : Mem} {Q : AR → Mem → Prop} : Tq 51 9 [vR 1 0, vJ, vJ, vJ, vJ, vJ, vI x6, vI x7, vR 17 x8, vJ, vJ] [vI s0] M Q ↔ (if ¬ s0 = (-99999999) then Tq 51 10 [vR 1 0, vJ, vJ, vJ, vJ, vJ, vI x6, vI x7, vR 17 x8, vI s0, vJ] [] M Q else Q (.inl (some (vI (-2)))) M) :=
  Tq_blk (is := bk_51_9) (dd := de_51) rfl rfl
/-- EarthOffice pick block at 152 -/
theorem t51_10 {x6 x7 x8 x9 : Int} {M : Mem} {Q : AR → Mem → Prop} : Tq 51 10 [vR 1 0, vJ, vJ, vJ, vJ, vJ, vI x6, vI x7, vR 17 x8, vI x9, vJ] [] M Q ↔ (if ¬ M 18 0 0 = (64 : Int) then Tq 51 11 [vR 1 0, vJ, vJ, vJ, vJ, vJ, vI x6, vI x7, vR 17 x8, vI x9, vJ] [] M Q else Q (.inl (some (vI (-3)))) M) :=
  Tq_blk (is := bk_51_10) (dd := de_51) rfl rfl
/-- EarthOffice pick block at 167 -/
theorem t51_11 {x6 x7 x8 x9 : Int} {M : Mem} {Q : AR → Mem → Prop} : Tq 51 11 [vR 1 0, vJ, vJ, vJ, vJ, vJ, vI x6, vI x7, vR 17 x8, vI x9, vJ] [] M Q ↔ (if ¬ x9 = 0 then Tq 51 12 [vR 1 0, vJ, vJ, vJ, vJ, vJ, vI x6, vI x7, vR 17 x8, vI x9, vJ] [] M Q else Tq 51 13 [vR 1 0, vJ, vJ, vJ, vJ, vJ, vI x6, vI x7, vR 17 x8, vI x9, vJ] [vI 0] M Q) :=
  Tq_blk (is := bk_51_11) (dd := de_51) rfl rfl
/-- EarthOffice pick block at 176 -/
theorem t51_12_c11 {x6 x7 x8 x9 s0 s1 : Int} {M : Mem} {Q : AR → Mem → Prop} : Bq 51 de_51 (List.drop 11 bk_51_12) [vR 1 0, vJ, vJ, vJ, vJ, vJ, vI x6, vI x7, vR 17 x8, vI x9, vJ] [vI s0, vI s1] M Q ↔ (Tq 50 0 [vI s0] [] M (kI fun v1 M1 => Tq 7 0 [vI s1, vI v1] [] M1 (kI fun v2 M2 => Tq 51 13 [vR 1 0, vJ, vJ, vJ, vJ, vJ, vI x6, vI x7, vR 17 x8, vI x9, vJ] [vI v2] M2 Q))) :=
  Iff.rfl
theorem t51_12_c5 {x6 x7 x8 x9 s0 : Int} {M : Mem} {Q : AR → Mem → Prop} : Bq 51 de_51 (List.drop 5 bk_51_12) [vR 1 0, vJ, vJ, vJ, vJ, vJ, vI x6, vI x7, vR 17 x8, vI x9, vJ] [vI s0] M Q ↔ (((0 : Int) ≤ w32 (x9 - 1) ∧ w32 (x9 - 1) < 512) ∧ Tq 50 0 [vI (M 17000 x8 (w32 (x9 - 1)))] [] M (kI fun v1 M1 => Tq 7 0 [vI s0, vI v1] [] M1 (kI fun v2 M2 => Tq 51 13 [vR 1 0, vJ, vJ, vJ, vJ, vJ, vI x6, vI x7, vR 17 x8, vI x9, vJ] [vI v2] M2 Q))) :=
  (show Bq 51 de_51 (List.drop 5 bk_51_12) [vR 1 0, vJ, vJ, vJ, vJ, vJ, vI x6, vI x7, vR 17 x8, vI x9, vJ] [vI s0] M Q ↔ (((0 : Int) ≤ w32 (x9 - 1) ∧ w32 (x9 - 1) < 512) ∧ Bq 51 de_51 (List.drop 11 bk_51_12) [vR 1 0, vJ, vJ, vJ, vJ, vJ, vI x6, vI x7, vR 17 x8, vI x9, vJ] [vI (M 17000 x8 (w32 (x9 - 1))), vI s0] M Q) from Iff.rfl).trans (by simp only [t51_12_c11])
theorem t51_12 {x6 x7 x8 x9 : Int} {M : Mem} {Q : AR → Mem → Prop} : Tq 51 12 [vR 1 0, vJ, vJ, vJ, vJ, vJ, vI x6, vI x7, vR 17 x8, vI x9, vJ] [] M Q ↔ (((0 : Int) ≤ x9 ∧ x9 < 512) ∧ Tq 50 0 [vI (M 17000 x8 x9)] [] M (kI fun v1 M1 => ((0 : Int) ≤ w32 (x9 - 1) ∧ w32 (x9 - 1) < 512) ∧ Tq 50 0 [vI (M1 17000 x8 (w32 (x9 - 1)))] [] M1 (kI fun v2 M2 => Tq 7 0 [vI v1, vI v2] [] M2 (kI fun v3 M3 => Tq 51 13 [vR 1 0, vJ, vJ, vJ, vJ, vJ, vI x6, vI x7, vR 17 x8, vI x9, vJ] [vI v3] M3 Q)))) :=
  (show Tq 51 12 [vR 1 0, vJ, vJ, vJ, vJ, vJ, vI x6, vI x7, vR 17 x8, vI x9, vJ] [] M Q ↔ (((0 : Int) ≤ x9 ∧ x9 < 512) ∧ Tq 50 0 [vI (M 17000 x8 x9)] [] M (kI fun v1 M1 => Bq 51 de_51 (List.drop 5 bk_51_12) [vR 1 0, vJ, vJ, vJ, vJ, vJ, vI x6, vI x7, vR 17 x8, vI x9, vJ] [vI v1] M1 Q)) from Tq_blk (is := bk_51_12) (dd := de_51) rfl rfl).trans (by simp only [t51_12_c5])
/-- EarthOffice pick block at 203 -/
theorem t51_13_c6 {x6 x7 x8 x9 x10 s0 s1 : Int} {M : Mem} {Q : AR → Mem → Prop} : Bq 51 de_51 (List.drop 6 bk_51_13) [vR 1 0, vJ, vJ, vJ, vJ, vJ, vI x6, vI x7, vR 17 x8, vI x9, vI x10] [vR 17 s0, vI s1, vR 18 0] M Q ↔ (Tq 147 0 [vR 18 0, vI s1, vI (w32 (M 17 s0 4 + x9)), vI x6, vI x7, vI x10] [] M (kI fun v1 M1 => Q (.inl (some (vI v1))) M1)) :=
  Iff.rfl
theorem t51_13 {x6 x7 x8 x9 s0 : Int} {M : Mem} {Q : AR → Mem → Prop} : Tq 51 13 [vR 1 0, vJ, vJ, vJ, vJ, vJ, vI x6, vI x7, vR 17 x8, vI x9, vJ] [vI s0] M Q ↔ (Tq 147 0 [vR 18 0, vI (M 17 x8 3), vI (w32 (M 17 x8 4 + x9)), vI x6, vI x7, vI s0] [] M (kI fun v1 M1 => Q (.inl (some (vI v1))) M1)) :=
  (show Tq 51 13 [vR 1 0, vJ, vJ, vJ, vJ, vJ, vI x6, vI x7, vR 17 x8, vI x9, vJ] [vI s0] M Q ↔ (Bq 51 de_51 (List.drop 6 bk_51_13) [vR 1 0, vJ, vJ, vJ, vJ, vJ, vI x6, vI x7, vR 17 x8, vI x9, vI s0] [vR 17 x8, vI (M 17 x8 3), vR 18 0] M Q) from Tq_blk (is := bk_51_13) (dd := de_51) rfl rfl).trans (by simp only [t51_13_c6])
/-- EarthOffice isPick block at 0 -/
theorem t52_0 {x0 x1 : Int} {M : Mem} {Q : AR → Mem → Prop} : Tq 52 0 [vI x0, vI x1] [] M Q ↔ (Tq 25 0 [vI x0, vI 0, vI 1] [] M (kI fun v1 M1 => if v1 = 0 then Tq 52 1 [vJ, vJ] [] M1 Q else Tq 25 0 [vI x1, vI 1, vI 9] [] M1 (kI fun v2 M2 => if v2 = 0 then Tq 52 1 [vJ, vJ] [] M2 Q else Tq 52 2 [vJ, vJ] [vI 1] M2 Q))) :=
  Tq_blk (is := bk_52_0) (dd := de_52) rfl rfl
/-- EarthOffice isPick block at 23 -/
theorem t52_1 {M : Mem} {Q : AR → Mem → Prop} : Tq 52 1 [vJ, vJ] [] M Q ↔ (Tq 52 2 [vJ, vJ] [vI 0] M Q) :=
  Tq_blk (is := bk_52_1) (dd := de_52) rfl rfl
/-- EarthOffice isPick block at 24 -/
theorem t52_2 {s0 : Int} {M : Mem} {Q : AR → Mem → Prop} : Tq 52 2 [vJ, vJ] [vI s0] M Q ↔ (Q (.inl (some (vI (nb s0)))) M) :=
  Tq_blk (is := bk_52_2) (dd := de_52) rfl rfl
/-- EarthOffice lg block at 0 -/
theorem t53_0 {x0 : Int} {M : Mem} {Q : AR → Mem → Prop} : Tq 53 0 [vL x0, vJ, vJ, vJ, vJ, vJ, vJ, vJ] [] M Q ↔ (Tq 15 0 [vL x0, vJ, vJ] [] M (kI fun v1 M1 => if w32 (63 - v1) ≤ (30 : Int) then Tq 53 1 [vL x0, vJ, vI (w32 (63 - v1)), vJ, vJ, vJ, vJ, vJ] [] M1 Q else Tq 53 2 [vJ, vJ, vI (w32 (63 - v1)), vJ, vJ, vJ, vJ, vJ] [vL (shr64 x0 (w32 (w32 (63 - v1) - 30)))] M1 Q)) :=
  Tq_blk (is := bk_53_0) (dd := de_53) rfl rfl
/-- EarthOffice lg block at 23 -/
theorem t53_1 {x0 x2 : Int} {M : Mem} {Q : AR → Mem → Prop} : Tq 53 1 [vL x0, vJ, vI x2, vJ, vJ, vJ, vJ, vJ] [] M Q ↔ (Tq 53 2 [vJ, vJ, vI x2, vJ, vJ, vJ, vJ, vJ] [vL (shl64 x0 (w32 (30 - x2)))] M Q) :=
  Tq_blk (is := bk_53_1) (dd := de_53) rfl rfl
/-- EarthOffice lg block at 29 -/
theorem t53_2 {x2 s0 : Int} {M : Mem} {Q : AR → Mem → Prop} : Tq 53 2 [vJ, vJ, vI x2, vJ, vJ, vJ, vJ, vJ] [vL s0] M Q ↔ (Tq 53 3 [vJ, vJ, vI x2, vL s0, vJ, vI 0, vI 0, vJ] [] M Q) :=
  Tq_blk (is := bk_53_2) (dd := de_53) rfl rfl
/-- EarthOffice lg block at 36 -/
theorem t53_3 {x2 x3 x5 x6 : Int} {M : Mem} {Q : AR → Mem → Prop} : Tq 53 3 [vJ, vJ, vI x2, vL x3, vJ, vI x5, vI x6, vJ] [] M Q ↔ (if (8 : Int) ≤ x6 then Tq 53 6 [vJ, vJ, vI x2, vJ, vJ, vI x5, vJ, vJ] [] M Q else if cmp64 (shr64 (w64 (x3 * x3)) 30) 2147483648 < 0 then Tq 53 4 [vJ, vJ, vI x2, vL (shr64 (w64 (x3 * x3)) 30), vJ, vI x5, vI x6, vJ] [] M Q else Tq 53 5 [vJ, vJ, vI x2, vL (shr64 (w64 (x3 * x3)) 30), vJ, vI x5, vI x6, vJ] [vI 1] M Q) :=
  Tq_blk (is := bk_53_3) (dd := de_53) rfl rfl
/-- EarthOffice lg block at 62 -/
theorem t53_4 {x2 x3 x5 x6 : Int} {M : Mem} {Q : AR → Mem → Prop} : Tq 53 4 [vJ, vJ, vI x2, vL x3, vJ, vI x5, vI x6, vJ] [] M Q ↔ (Tq 53 5 [vJ, vJ, vI x2, vL x3, vJ, vI x5, vI x6, vJ] [vI 0] M Q) :=
  Tq_blk (is := bk_53_4) (dd := de_53) rfl rfl
/-- EarthOffice lg block at 63 -/
theorem t53_5 {x2 x3 x5 x6 s0 : Int} {M : Mem} {Q : AR → Mem → Prop} : Tq 53 5 [vJ, vJ, vI x2, vL x3, vJ, vI x5, vI x6, vJ] [vI s0] M Q ↔ (Tq 53 3 [vJ, vJ, vI x2, vL (shr64 x3 s0), vJ, vI (w32 (w32 (2 * x5) + s0)), vI (w32 (x6 + 1)), vJ] [] M Q) :=
  Tq_blk (is := bk_53_5) (dd := de_53) rfl rfl
/-- EarthOffice lg block at 85 -/
theorem t53_6 {x2 x5 : Int} {M : Mem} {Q : AR → Mem → Prop} : Tq 53 6 [vJ, vJ, vI x2, vJ, vJ, vI x5, vJ, vJ] [] M Q ↔ (Q (.inl (some (vI (w32 (w32 (256 * x2) + x5))))) M) :=
  Tq_blk (is := bk_53_6) (dd := de_53) rfl rfl
/-- EarthOffice mark block at 0 -/
theorem t54_0 {x1 x2 x3 x4 : Int} {M : Mem} {Q : AR → Mem → Prop} : Tq 54 0 [vR 1 0, vI x1, vI x2, vI x3, vI x4] [] M Q ↔ (Tq 353 0 [vR 5 0, vI x1] [] M (kI fun v1 M1 => if v1 = 0 then Tq 54 1 [vJ, vJ, vJ, vJ, vJ] [] M1 Q else Tq 34 0 [vI x2] [] M1 (kI fun v2 M2 => if v2 = 0 then Tq 54 1 [vJ, vJ, vJ, vJ, vJ] [] M2 Q else Tq 52 0 [vI x3, vI x4] [] M2 (kI fun v3 M3 => if ¬ v3 = 0 then Tq 54 2 [vR 1 0, vI x1, vI x2, vI x3, vI x4] [] M3 Q else Tq 54 1 [vJ, vJ, vJ, vJ, vJ] [] M3 Q)))) :=
  Tq_blk (is := bk_54_0) (dd := de_54) rfl rfl
/-- EarthOffice mark block at 27 -/
theorem t54_1 {M : Mem} {Q : AR → Mem → Prop} : Tq 54 1 [vJ, vJ, vJ, vJ, vJ] [] M Q ↔ (Q (.inl (some (vI (-1)))) M) :=
  Tq_blk (is := bk_54_1) (dd := de_54) rfl rfl
/-- EarthOffice mark block at 29 -/
theorem t54_2 {x1 x2 x3 x4 : Int} {M : Mem} {Q : AR → Mem → Prop} : Tq 54 2 [vR 1 0, vI x1, vI x2, vI x3, vI x4] [] M Q ↔ (if ¬ M 18 0 0 = (64 : Int) then Tq 54 3 [vR 1 0, vI x1, vI x2, vI x3, vI x4] [] M Q else Tq 54 4 [vJ, vJ, vJ, vJ, vJ] [vI (-3)] M Q) :=
  Tq_blk (is := bk_54_2) (dd := de_54) rfl rfl
/-- EarthOffice mark block at 46 -/
theorem t54_3 {x1 x2 x3 x4 : Int} {M : Mem} {Q : AR → Mem → Prop} : Tq 54 3 [vR 1 0, vI x1, vI x2, vI x3, vI x4] [] M Q ↔ (Tq 147 0 [vR 18 0, vI x1, vI x2, vI x3, vI x4, vI 0] [] M (kI fun v1 M1 => Tq 54 4 [vJ, vJ, vJ, vJ, vJ] [vI v1] M1 Q)) :=
  Tq_blk (is := bk_54_3) (dd := de_54) rfl rfl
/-- EarthOffice mark block at 59 -/
theorem t54_4 {s0 : Int} {M : Mem} {Q : AR → Mem → Prop} : Tq 54 4 [vJ, vJ, vJ, vJ, vJ] [vI s0] M Q ↔ (Q (.inl (some (vI s0))) M) :=
  Tq_blk (is := bk_54_4) (dd := de_54) rfl rfl
/-- EarthOffice picked block at 0 -/
theorem t55_0 {x1 x2 : Int} {M : Mem} {Q : AR → Mem → Prop} : Tq 55 0 [vR 1 0, vI x1, vI x2] [] M Q ↔ (Tq 25 0 [vI x1, vI 0, vI (w32 (M 18 0 0 - 1))] [] M (kI fun v1 M1 => if v1 = 0 then Tq 55 1 [vJ, vJ, vJ] [] M1 Q else Tq 25 0 [vI x2, vI 0, vI 5] [] M1 (kI fun v2 M2 => if v2 = 0 then Tq 55 1 [vJ, vJ, vJ] [] M2 Q else Tq 148 0 [vR 18 0, vI x1, vI x2] [] M2 (kI fun v3 M3 => Tq 55 2 [vJ, vJ, vJ] [vI v3] M3 Q)))) :=
  Tq_blk (is := bk_55_0) (dd := de_55) rfl rfl
/-- EarthOffice picked block at 38 -/
theorem t55_1 {M : Mem} {Q : AR → Mem → Prop} : Tq 55 1 [vJ, vJ, vJ] [] M Q ↔ (Tq 55 2 [vJ, vJ, vJ] [vI (-1)] M Q) :=
  Tq_blk (is := bk_55_1) (dd := de_55) rfl rfl
/-- EarthOffice picked block at 39 -/
theorem t55_2 {s0 : Int} {M : Mem} {Q : AR → Mem → Prop} : Tq 55 2 [vJ, vJ, vJ] [vI s0] M Q ↔ (Q (.inl (some (vI s0))) M) :=
  Tq_blk (is := bk_55_2) (dd := de_55) rfl rfl
/-- EarthOffice forget block at 0 -/
theorem t56_0 {M : Mem} {Q : AR → Mem → Prop} : Tq 56 0 [vR 1 0, vJ] [] M Q ↔ (bd (mset M 18 0 0 0) fun M1 => Q (.inl (some (vI (M 18 0 0)))) M1) :=
  Tq_blk (is := bk_56_0) (dd := de_56) rfl rfl
/-- EarthOffice earth block at 0 -/
theorem t57_0 {x1 x2 x3 : Int} {M : Mem} {Q : AR → Mem → Prop} : Tq 57 0 [vR 1 0, vI x1, vI x2, vI x3] [] M Q ↔ (Tq 25 0 [vI x1, vI 0, vI 15] [] M (kI fun v1 M1 => if v1 = 0 then Tq 57 1 [vJ, vJ, vJ, vJ] [] M1 Q else Tq 25 0 [vI x2, vI 1, vI 999] [] M1 (kI fun v2 M2 => if v2 = 0 then Tq 57 1 [vJ, vJ, vJ, vJ] [] M2 Q else Tq 25 0 [vI x3, vI 1, vI 999] [] M2 (kI fun v3 M3 => if ¬ v3 = 0 then Tq 57 2 [vR 1 0, vI x1, vI x2, vI x3] [] M3 Q else Tq 57 1 [vJ, vJ, vJ, vJ] [] M3 Q)))) :=
  Tq_blk (is := bk_57_0) (dd := de_57) rfl rfl
/-- EarthOffice earth block at 32 -/
theorem t57_1 {M : Mem} {Q : AR → Mem → Prop} : Tq 57 1 [vJ, vJ, vJ, vJ] [] M Q ↔ (Q (.inl (some (vI (-1)))) M) :=
  Tq_blk (is := bk_57_1) (dd := de_57) rfl rfl
/-- EarthOffice earth block at 34 -/
theorem t57_2 {x1 x2 x3 : Int} {M : Mem} {Q : AR → Mem → Prop} : Tq 57 2 [vR 1 0, vI x1, vI x2, vI x3] [] M Q ↔ (Tq 119 0 [vR 14 0, vI 13] [] M (kI fun v1 M1 => if ¬ v1 = 0 then Tq 57 3 [vR 1 0, vI x1, vI x2, vI x3] [] M1 Q else Q (.inl (some (vI (-3)))) M1)) :=
  Tq_blk (is := bk_57_2) (dd := de_57) rfl rfl
/-- EarthOffice earth block at 49 -/
theorem t57_3 {x1 x2 x3 : Int} {M : Mem} {Q : AR → Mem → Prop} : Tq 57 3 [vR 1 0, vI x1, vI x2, vI x3] [] M Q ↔ (Tq 123 0 [vR 14 0, vI 68, vI x1, vI x2, vI x3] [] M (kV fun M1 => Tq 161 0 [vR 3 0, vI x1, vI x2, vI x3] [] M1 (kV fun M2 => Q (.inl (some (vI 0))) M2))) :=
  Tq_blk (is := bk_57_3) (dd := de_57) rfl rfl
/-- EarthOffice travel block at 0 -/
theorem t58_0 {x1 x2 x3 : Int} {M : Mem} {Q : AR → Mem → Prop} : Tq 58 0 [vR 1 0, vI x1, vI x2, vI x3] [] M Q ↔ (Tq 25 0 [vI x1, vI 0, vI 1] [] M (kI fun v1 M1 => if v1 = 0 then Tq 58 1 [vJ, vJ, vJ, vJ] [] M1 Q else Tq 25 0 [vI x2, vI 0, vI 89] [] M1 (kI fun v2 M2 => if v2 = 0 then Tq 58 1 [vJ, vJ, vJ, vJ] [] M2 Q else Tq 25 0 [vI x3, vI 0, vI 15] [] M2 (kI fun v3 M3 => if v3 = 0 then Tq 58 1 [vJ, vJ, vJ, vJ] [] M3 Q else Tq 162 0 [vR 3 0, vI x1, vI x2, vI x3] [] M3 (kI fun v4 M4 => Tq 58 2 [vJ, vJ, vJ, vJ] [vI v4] M4 Q))))) :=
  Tq_blk (is := bk_58_0) (dd := de_58) rfl rfl
/-- EarthOffice travel block at 42 -/
theorem t58_1 {M : Mem} {Q : AR → Mem → Prop} : Tq 58 1 [vJ, vJ, vJ, vJ] [] M Q ↔ (Tq 58 2 [vJ, vJ, vJ, vJ] [vI (-1)] M Q) :=
  Tq_blk (is := bk_58_1) (dd := de_58) rfl rfl
/-- EarthOffice travel block at 43 -/
theorem t58_2 {s0 : Int} {M : Mem} {Q : AR → Mem → Prop} : Tq 58 2 [vJ, vJ, vJ, vJ] [vI s0] M Q ↔ (Q (.inl (some (vI s0))) M) :=
  Tq_blk (is := bk_58_2) (dd := de_58) rfl rfl
/-- EarthOffice inverse block at 0 -/
theorem t59_0 {x1 x2 x3 : Int} {M : Mem} {Q : AR → Mem → Prop} : Tq 59 0 [vR 1 0, vI x1, vI x2, vI x3] [] M Q ↔ (Tq 25 0 [vI x1, vI 0, vI 1] [] M (kI fun v1 M1 => if v1 = 0 then Tq 59 1 [vJ, vJ, vJ, vJ] [] M1 Q else Tq 25 0 [vI x3, vI 0, vI 15] [] M1 (kI fun v2 M2 => if v2 = 0 then Tq 59 1 [vJ, vJ, vJ, vJ] [] M2 Q else Tq 166 0 [vR 3 0, vI x1, vI x2, vI x3, vJ, vJ] [] M2 (kI fun v3 M3 => Tq 59 2 [vJ, vJ, vJ, vJ] [vI v3] M3 Q)))) :=
  Tq_blk (is := bk_59_0) (dd := de_59) rfl rfl
/-- EarthOffice inverse block at 32 -/
theorem t59_1 {M : Mem} {Q : AR → Mem → Prop} : Tq 59 1 [vJ, vJ, vJ, vJ] [] M Q ↔ (Tq 59 2 [vJ, vJ, vJ, vJ] [vI (-1)] M Q) :=
  Tq_blk (is := bk_59_1) (dd := de_59) rfl rfl
/-- EarthOffice inverse block at 33 -/
theorem t59_2 {s0 : Int} {M : Mem} {Q : AR → Mem → Prop} : Tq 59 2 [vJ, vJ, vJ, vJ] [vI s0] M Q ↔ (Q (.inl (some (vI s0))) M) :=
  Tq_blk (is := bk_59_2) (dd := de_59) rfl rfl
