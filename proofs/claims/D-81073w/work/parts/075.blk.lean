/-! BLOCKS (printed by gen/lem.py) -/
set_option maxRecDepth 100000
/-- EarthOfficeModel clipped block at 0 -/
theorem t300_0 {x0 : Int} {M : Mem} {Q : AR → Mem → Prop} : Tq 300 0 [vI x0] [] M Q ↔ (if (-1048576) ≤ x0 then Tq 300 1 [vI x0] [] M Q else Tq 300 3 [vJ] [vI (-1048576)] M Q) :=
  Tq_blk (is := bk_300_0) (dd := de_300) rfl rfl
/-- EarthOfficeModel clipped block at 13 -/
theorem t300_1 {x0 : Int} {M : Mem} {Q : AR → Mem → Prop} : Tq 300 1 [vI x0] [] M Q ↔ (if x0 ≤ (1048576 : Int) then Tq 300 2 [vI x0] [] M Q else Tq 300 3 [vJ] [vI 1048576] M Q) :=
  Tq_blk (is := bk_300_1) (dd := de_300) rfl rfl
/-- EarthOfficeModel clipped block at 26 -/
theorem t300_2 {x0 : Int} {M : Mem} {Q : AR → Mem → Prop} : Tq 300 2 [vI x0] [] M Q ↔ (Tq 300 3 [vJ] [vI x0] M Q) :=
  Tq_blk (is := bk_300_2) (dd := de_300) rfl rfl
/-- EarthOfficeModel clipped block at 27 -/
theorem t300_3 {s0 : Int} {M : Mem} {Q : AR → Mem → Prop} : Tq 300 3 [vJ] [vI s0] M Q ↔ (Q (.inl (some (vI s0))) M) :=
  Tq_blk (is := bk_300_3) (dd := de_300) rfl rfl
/-- EarthOfficeModel pick block at 0 -/
theorem t301_0_c17 {x1 x2 x3 x4 x5 x6 x7 s0 : Int} {M : Mem} {Q : AR → Mem → Prop} : Bq 301 de_301 (List.drop 17 bk_301_0) [vR 22 0, vI x1, vI x2, vI x3, vI x4, vI x5, vI x6, vI x7, vJ, vJ, vJ] [vI s0] M Q ↔ (if ¬ s0 = 0 then Tq 301 2 [vR 22 0, vI x1, vI x2, vI x3, vI x4, vI x5, vI x6, vI x7, vJ, vJ, vJ] [] M Q else Tq 301 1 [vJ, vJ, vJ, vJ, vJ, vJ, vJ, vJ, vJ, vJ, vJ] [] M Q) :=
  Iff.rfl
theorem t301_0_c12 {x1 x2 x3 x4 x5 x6 x7 s0 : Int} {M : Mem} {Q : AR → Mem → Prop} : Bq 301 de_301 (List.drop 12 bk_301_0) [vR 22 0, vI x1, vI x2, vI x3, vI x4, vI x5, vI x6, vI x7, vJ, vJ, vJ] [vI s0] M Q ↔ (if s0 = 0 then Tq 301 1 [vJ, vJ, vJ, vJ, vJ, vJ, vJ, vJ, vJ, vJ, vJ] [] M Q else Tq 189 0 [vI x7, vI 1, vI 9] [] M (kI fun v1 M1 => if ¬ v1 = 0 then Tq 301 2 [vR 22 0, vI x1, vI x2, vI x3, vI x4, vI x5, vI x6, vI x7, vJ, vJ, vJ] [] M1 Q else Tq 301 1 [vJ, vJ, vJ, vJ, vJ, vJ, vJ, vJ, vJ, vJ, vJ] [] M1 Q)) :=
  (show Bq 301 de_301 (List.drop 12 bk_301_0) [vR 22 0, vI x1, vI x2, vI x3, vI x4, vI x5, vI x6, vI x7, vJ, vJ, vJ] [vI s0] M Q ↔ (if s0 = 0 then Tq 301 1 [vJ, vJ, vJ, vJ, vJ, vJ, vJ, vJ, vJ, vJ, vJ] [] M Q else Tq 189 0 [vI x7, vI 1, vI 9] [] M (kI fun v1 M1 => Bq 301 de_301 (List.drop 17 bk_301_0) [vR 22 0, vI x1, vI x2, vI x3, vI x4, vI x5, vI x6, vI x7, vJ, vJ, vJ] [vI v1] M1 Q)) from Iff.rfl).trans (by simp only [t301_0_c17])
theorem t301_0_c7 {x1 x2 x3 x4 x5 x6 x7 s0 : Int} {M : Mem} {Q : AR → Mem → Prop} : Bq 301 de_301 (List.drop 7 bk_301_0) [vR 22 0, vI x1, vI x2, vI x3, vI x4, vI x5, vI x6, vI x7, vJ, vJ, vJ] [vI s0] M Q ↔ (if s0 = 0 then Tq 301 1 [vJ, vJ, vJ, vJ, vJ, vJ, vJ, vJ, vJ, vJ, vJ] [] M Q else Tq 189 0 [vI x6, vI 0, vI 1] [] M (kI fun v1 M1 => if v1 = 0 then Tq 301 1 [vJ, vJ, vJ, vJ, vJ, vJ, vJ, vJ, vJ, vJ, vJ] [] M1 Q else Tq 189 0 [vI x7, vI 1, vI 9] [] M1 (kI fun v2 M2 => if ¬ v2 = 0 then Tq 301 2 [vR 22 0, vI x1, vI x2, vI x3, vI x4, vI x5, vI x6, vI x7, vJ, vJ, vJ] [] M2 Q else Tq 301 1 [vJ, vJ, vJ, vJ, vJ, vJ, vJ, vJ, vJ, vJ, vJ] [] M2 Q))) :=
  (show Bq 301 de_301 (List.drop 7 bk_301_0) [vR 22 0, vI x1, vI x2, vI x3, vI x4, vI x5, vI x6, vI x7, vJ, vJ, vJ] [vI s0] M Q ↔ (if s0 = 0 then Tq 301 1 [vJ, vJ, vJ, vJ, vJ, vJ, vJ, vJ, vJ, vJ, vJ] [] M Q else Tq 189 0 [vI x6, vI 0, vI 1] [] M (kI fun v1 M1 => Bq 301 de_301 (List.drop 12 bk_301_0) [vR 22 0, vI x1, vI x2, vI x3, vI x4, vI x5, vI x6, vI x7, vJ, vJ, vJ] [vI v1] M1 Q)) from Iff.rfl).trans (by simp only [t301_0_c12])
theorem t301_0_c2 {x1 x2 x3 x4 x5 x6 x7 s0 : Int} {M : Mem} {Q : AR → Mem → Prop} : Bq 301 de_301 (List.drop 2 bk_301_0) [vR 22 0, vI x1, vI x2, vI x3, vI x4, vI x5, vI x6, vI x7, vJ, vJ, vJ] [vI s0] M Q ↔ (if s0 = 0 then Tq 301 1 [vJ, vJ, vJ, vJ, vJ, vJ, vJ, vJ, vJ, vJ, vJ] [] M Q else Tq 189 0 [vI x2, vI 0, vI 1] [] M (kI fun v1 M1 => if v1 = 0 then Tq 301 1 [vJ, vJ, vJ, vJ, vJ, vJ, vJ, vJ, vJ, vJ, vJ] [] M1 Q else Tq 189 0 [vI x6, vI 0, vI 1] [] M1 (kI fun v2 M2 => if v2 = 0 then Tq 301 1 [vJ, vJ, vJ, vJ, vJ, vJ, vJ, vJ, vJ, vJ, vJ] [] M2 Q else Tq 189 0 [vI x7, vI 1, vI 9] [] M2 (kI fun v3 M3 => if ¬ v3 = 0 then Tq 301 2 [vR 22 0, vI x1, vI x2, vI x3, vI x4, vI x5, vI x6, vI x7, vJ, vJ, vJ] [] M3 Q else Tq 301 1 [vJ, vJ, vJ, vJ, vJ, vJ, vJ, vJ, vJ, vJ, vJ] [] M3 Q)))) :=
  (show Bq 301 de_301 (List.drop 2 bk_301_0) [vR 22 0, vI x1, vI x2, vI x3, vI x4, vI x5, vI x6, vI x7, vJ, vJ, vJ] [vI s0] M Q ↔ (if s0 = 0 then Tq 301 1 [vJ, vJ, vJ, vJ, vJ, vJ, vJ, vJ, vJ, vJ, vJ] [] M Q else Tq 189 0 [vI x2, vI 0, vI 1] [] M (kI fun v1 M1 => Bq 301 de_301 (List.drop 7 bk_301_0) [vR 22 0, vI x1, vI x2, vI x3, vI x4, vI x5, vI x6, vI x7, vJ, vJ, vJ] [vI v1] M1 Q)) from Iff.rfl).trans (by simp only [t301_0_c7])
theorem t301_0 {x1 x2 x3 x4 x5 x6 x7 : Int} {M : Mem} {Q : AR → Mem → Prop} : Tq 301 0 [vR 22 0, vI x1, vI x2, vI x3, vI x4, vI x5, vI x6, vI x7, vJ, vJ, vJ] [] M Q ↔ (Tq 289 0 [vI x1] [] M (kI fun v1 M1 => if v1 = 0 then Tq 301 1 [vJ, vJ, vJ, vJ, vJ, vJ, vJ, vJ, vJ, vJ, vJ] [] M1 Q else Tq 189 0 [vI x2, vI 0, vI 1] [] M1 (kI fun v2 M2 => if v2 = 0 then Tq 301 1 [vJ, vJ, vJ, vJ, vJ, vJ, vJ, vJ, vJ, vJ, vJ] [] M2 Q else Tq 189 0 [vI x6, vI 0, vI 1] [] M2 (kI fun v3 M3 => if v3 = 0 then Tq 301 1 [vJ, vJ, vJ, vJ, vJ, vJ, vJ, vJ, vJ, vJ, vJ] [] M3 Q else Tq 189 0 [vI x7, vI 1, vI 9] [] M3 (kI fun v4 M4 => if ¬ v4 = 0 then Tq 301 2 [vR 22 0, vI x1, vI x2, vI x3, vI x4, vI x5, vI x6, vI x7, vJ, vJ, vJ] [] M4 Q else Tq 301 1 [vJ, vJ, vJ, vJ, vJ, vJ, vJ, vJ, vJ, vJ, vJ] [] M4 Q))))) :=
  (show Tq 301 0 [vR 22 0, vI x1, vI x2, vI x3, vI x4, vI x5, vI x6, vI x7, vJ, vJ, vJ] [] M Q ↔ (Tq 289 0 [vI x1] [] M (kI fun v1 M1 => Bq 301 de_301 (List.drop 2 bk_301_0) [vR 22 0, vI x1, vI x2, vI x3, vI x4, vI x5, vI x6, vI x7, vJ, vJ, vJ] [vI v1] M1 Q)) from Tq_blk (is := bk_301_0) (dd := de_301) rfl rfl).trans (by simp only [t301_0_c2])
/-- EarthOfficeModel pick block at 37 -/
theorem t301_1 {M : Mem} {Q : AR → Mem → Prop} : Tq 301 1 [vJ, vJ, vJ, vJ, vJ, vJ, vJ, vJ, vJ, vJ, vJ] [] M Q ↔ (Q (.inl (some (vI (-1)))) M) :=
  Tq_blk (is := bk_301_1) (dd := de_301) rfl rfl
/-- EarthOfficeModel pick block at 39 -/
theorem t301_2_c17 {x1 x2 x3 x4 x5 x6 x7 s0 : Int} {M : Mem} {Q : AR → Mem → Prop} : Bq 301 de_301 (List.drop 17 bk_301_2) [vR 22 0, vI x1, vI x2, vI x3, vI x4, vI x5, vI x6, vI x7, vJ, vJ, vJ] [vI s0] M Q ↔ (if ¬ s0 = 0 then Tq 301 4 [vR 22 0, vI x1, vI x2, vI x3, vI x4, vI x5, vI x6, vI x7, vJ, vJ, vJ] [] M Q else Tq 301 3 [vJ, vJ, vJ, vJ, vJ, vJ, vJ, vJ, vJ, vJ, vJ] [] M Q) :=
  Iff.rfl
theorem t301_2_c12 {x1 x2 x3 x4 x5 x6 x7 s0 s1 : Int} {M : Mem} {Q : AR → Mem → Prop} : Bq 301 de_301 (List.drop 12 bk_301_2) [vR 22 0, vI x1, vI x2, vI x3, vI x4, vI x5, vI x6, vI x7, vJ, vJ, vJ] [vI s0, vI s1] M Q ↔ (if s0 < s1 then Tq 301 3 [vJ, vJ, vJ, vJ, vJ, vJ, vJ, vJ, vJ, vJ, vJ] [] M Q else Tq 189 0 [vI x5, vI 17, vI 256] [] M (kI fun v1 M1 => if ¬ v1 = 0 then Tq 301 4 [vR 22 0, vI x1, vI x2, vI x3, vI x4, vI x5, vI x6, vI x7, vJ, vJ, vJ] [] M1 Q else Tq 301 3 [vJ, vJ, vJ, vJ, vJ, vJ, vJ, vJ, vJ, vJ, vJ] [] M1 Q)) :=
  (show Bq 301 de_301 (List.drop 12 bk_301_2) [vR 22 0, vI x1, vI x2, vI x3, vI x4, vI x5, vI x6, vI x7, vJ, vJ, vJ] [vI s0, vI s1] M Q ↔ (if s0 < s1 then Tq 301 3 [vJ, vJ, vJ, vJ, vJ, vJ, vJ, vJ, vJ, vJ, vJ] [] M Q else Tq 189 0 [vI x5, vI 17, vI 256] [] M (kI fun v1 M1 => Bq 301 de_301 (List.drop 17 bk_301_2) [vR 22 0, vI x1, vI x2, vI x3, vI x4, vI x5, vI x6, vI x7, vJ, vJ, vJ] [vI v1] M1 Q)) from Iff.rfl).trans (by simp only [t301_2_c17])
theorem t301_2_c6 {x1 x2 x3 x4 x5 x6 x7 s0 : Int} {M : Mem} {Q : AR → Mem → Prop} : Bq 301 de_301 (List.drop 6 bk_301_2) [vR 22 0, vI x1, vI x2, vI x3, vI x4, vI x5, vI x6, vI x7, vJ, vJ, vJ] [vI s0] M Q ↔ (if s0 = 0 then Tq 301 3 [vJ, vJ, vJ, vJ, vJ, vJ, vJ, vJ, vJ, vJ, vJ] [] M Q else if x4 ≤ x3 then Tq 301 3 [vJ, vJ, vJ, vJ, vJ, vJ, vJ, vJ, vJ, vJ, vJ] [] M Q else if (256 : Int) < x4 then Tq 301 3 [vJ, vJ, vJ, vJ, vJ, vJ, vJ, vJ, vJ, vJ, vJ] [] M Q else Tq 189 0 [vI x5, vI 17, vI 256] [] M (kI fun v1 M1 => if ¬ v1 = 0 then Tq 301 4 [vR 22 0, vI x1, vI x2, vI x3, vI x4, vI x5, vI x6, vI x7, vJ, vJ, vJ] [] M1 Q else Tq 301 3 [vJ, vJ, vJ, vJ, vJ, vJ, vJ, vJ, vJ, vJ, vJ] [] M1 Q)) :=
  (show Bq 301 de_301 (List.drop 6 bk_301_2) [vR 22 0, vI x1, vI x2, vI x3, vI x4, vI x5, vI x6, vI x7, vJ, vJ, vJ] [vI s0] M Q ↔ (if s0 = 0 then Tq 301 3 [vJ, vJ, vJ, vJ, vJ, vJ, vJ, vJ, vJ, vJ, vJ] [] M Q else if x4 ≤ x3 then Tq 301 3 [vJ, vJ, vJ, vJ, vJ, vJ, vJ, vJ, vJ, vJ, vJ] [] M Q else Bq 301 de_301 (List.drop 12 bk_301_2) [vR 22 0, vI x1, vI x2, vI x3, vI x4, vI x5, vI x6, vI x7, vJ, vJ, vJ] [vI 256, vI x4] M Q) from Iff.rfl).trans (by simp only [t301_2_c12])
theorem t301_2 {x1 x2 x3 x4 x5 x6 x7 : Int} {M : Mem} {Q : AR → Mem → Prop} : Tq 301 2 [vR 22 0, vI x1, vI x2, vI x3, vI x4, vI x5, vI x6, vI x7, vJ, vJ, vJ] [] M Q ↔ (if ¬ x2 = 0 then Tq 301 4 [vR 22 0, vI x1, vI x2, vI x3, vI x4, vI x5, vI x6, vI x7, vJ, vJ, vJ] [] M Q else Tq 189 0 [vI x3, vI 1, vI 32] [] M (kI fun v1 M1 => if v1 = 0 then Tq 301 3 [vJ, vJ, vJ, vJ, vJ, vJ, vJ, vJ, vJ, vJ, vJ] [] M1 Q else if x4 ≤ x3 then Tq 301 3 [vJ, vJ, vJ, vJ, vJ, vJ, vJ, vJ, vJ, vJ, vJ] [] M1 Q else if (256 : Int) < x4 then Tq 301 3 [vJ, vJ, vJ, vJ, vJ, vJ, vJ, vJ, vJ, vJ, vJ] [] M1 Q else Tq 189 0 [vI x5, vI 17, vI 256] [] M1 (kI fun v2 M2 => if ¬ v2 = 0 then Tq 301 4 [vR 22 0, vI x1, vI x2, vI x3, vI x4, vI x5, vI x6, vI x7, vJ, vJ, vJ] [] M2 Q else Tq 301 3 [vJ, vJ, vJ, vJ, vJ, vJ, vJ, vJ, vJ, vJ, vJ] [] M2 Q))) :=
  (show Tq 301 2 [vR 22 0, vI x1, vI x2, vI x3, vI x4, vI x5, vI x6, vI x7, vJ, vJ, vJ] [] M Q ↔ (if ¬ x2 = 0 then Tq 301 4 [vR 22 0, vI x1, vI x2, vI x3, vI x4, vI x5, vI x6, vI x7, vJ, vJ, vJ] [] M Q else Tq 189 0 [vI x3, vI 1, vI 32] [] M (kI fun v1 M1 => Bq 301 de_301 (List.drop 6 bk_301_2) [vR 22 0, vI x1, vI x2, vI x3, vI x4, vI x5, vI x6, vI x7, vJ, vJ, vJ] [vI v1] M1 Q)) from Tq_blk (is := bk_301_2) (dd := de_301) rfl rfl).trans (by simp only [t301_2_c6])
/-- EarthOfficeModel pick block at 80 -/
theorem t301_3 {M : Mem} {Q : AR → Mem → Prop} : Tq 301 3 [vJ, vJ, vJ, vJ, vJ, vJ, vJ, vJ, vJ, vJ, vJ] [] M Q ↔ (Q (.inl (some (vI (-1)))) M) :=
  Tq_blk (is := bk_301_3) (dd := de_301) rfl rfl
/-- EarthOfficeModel pick block at 82 -/
theorem t301_4 {x1 x2 x3 x4 x5 x6 x7 : Int} {M : Mem} {Q : AR → Mem → Prop} : Tq 301 4 [vR 22 0, vI x1, vI x2, vI x3, vI x4, vI x5, vI x6, vI x7, vJ, vJ, vJ] [] M Q ↔ (((0 : Int) ≤ x1 ∧ x1 < 6) ∧ if ¬ x2 = 0 then Tq 301 5 [vR 22 0, vI x1, vI x2, vI x3, vI x4, vI x5, vI x6, vI x7, vI (M 22018 0 x1), vJ, vJ] [vI (M 22018 0 x1)] M Q else Tq 301 6 [vR 22 0, vI x1, vI x2, vI x3, vI x4, vI x5, vI x6, vI x7, vI (M 22018 0 x1), vJ, vJ] [vI 1, vI (M 22018 0 x1)] M Q) :=
  Tq_blk (is := bk_301_4) (dd := de_301) rfl rfl
/-- EarthOfficeModel pick block at 100 -/
theorem t301_5 {x1 x2 x3 x4 x5 x6 x7 x8 s0 : Int} {M : Mem} {Q : AR → Mem → Prop} : Tq 301 5 [vR 22 0, vI x1, vI x2, vI x3, vI x4, vI x5, vI x6, vI x7, vI x8, vJ, vJ] [vI s0] M Q ↔ (Tq 301 6 [vR 22 0, vI x1, vI x2, vI x3, vI x4, vI x5, vI x6, vI x7, vI x8, vJ, vJ] [vI 8, vI s0] M Q) :=
  Tq_blk (is := bk_301_5) (dd := de_301) rfl rfl
/-- EarthOfficeModel pick block at 102 -/
theorem t301_6 {x1 x2 x3 x4 x5 x6 x7 x8 s0 s1 : Int} {M : Mem} {Q : AR → Mem → Prop} : Tq 301 6 [vR 22 0, vI x1, vI x2, vI x3, vI x4, vI x5, vI x6, vI x7, vI x8, vJ, vJ] [vI s0, vI s1] M Q ↔ (if s1 < s0 then Tq 301 7 [vJ, vJ, vJ, vJ, vJ, vJ, vJ, vJ, vJ, vJ, vJ] [] M Q else ((0 : Int) ≤ x1 ∧ x1 < 6) ∧ if ¬ M 22019 0 x1 = (-99999999) then Tq 301 8 [vR 22 0, vI x1, vI x2, vI x3, vI x4, vI x5, vI x6, vI x7, vI x8, vJ, vJ] [] M Q else Tq 301 7 [vJ, vJ, vJ, vJ, vJ, vJ, vJ, vJ, vJ, vJ, vJ] [] M Q) :=
  Tq_blk (is := bk_301_6) (dd := de_301) rfl rfl
/-- EarthOfficeModel pick block at 116 -/
theorem t301_7 {M : Mem} {Q : AR → Mem → Prop} : Tq 301 7 [vJ, vJ, vJ, vJ, vJ, vJ, vJ, vJ, vJ, vJ, vJ] [] M Q ↔ (Q (.inl (some (vI (-2)))) M) :=
  Tq_blk (is := bk_301_7) (dd := de_301) rfl rfl
/-- EarthOfficeModel pick block at 119 -/
theorem t301_8 {x1 x2 x3 x4 x5 x6 x7 x8 : Int} {M : Mem} {Q : AR → Mem → Prop} : Tq 301 8 [vR 22 0, vI x1, vI x2, vI x3, vI x4, vI x5, vI x6, vI x7, vI x8, vJ, vJ] [] M Q ↔ (Tq 301 9 [vR 22 0, vI x1, vI x2, vI x3, vI x4, vI x5, vI x6, vI x7, vI x8, vI 0, vJ] [] M Q) :=
  Tq_blk (is := bk_301_8) (dd := de_301) rfl rfl
/-- EarthOfficeModel pick block at 122 -/
theorem t301_9_c15 {x1 x2 x3 x4 x5 x6 x7 x8 x9 s0 s1 : Int} {M : Mem} {Q : AR → Mem → Prop} : Bq 301 de_301 (List.drop 15 bk_301_9) [vR 22 0, vI x1, vI x2, vI x3, vI x4, vI x5, vI x6, vI x7, vI x8, vI x9, vJ] [vI s0, vI s1, vR 22022 0] M Q ↔ (((0 : Int) ≤ s1 ∧ s1 < 512) ∧ bd (mset M 22022 0 s1 s0) fun M1 => Tq 301 9 [vR 22 0, vI x1, vI x2, vI x3, vI x4, vI x5, vI x6, vI x7, vI x8, vI (w32 (x9 + 1)), vJ] [] M1 Q) :=
  Iff.rfl
theorem t301_9_c12 {x1 x2 x3 x4 x5 x6 x7 x8 x9 s0 s1 s3 : Int} {M : Mem} {Q : AR → Mem → Prop} : Bq 301 de_301 (List.drop 12 bk_301_9) [vR 22 0, vI x1, vI x2, vI x3, vI x4, vI x5, vI x6, vI x7, vI x8, vI x9, vJ] [vI s0, vI s1, vR 22021 0, vI s3, vR 22022 0] M Q ↔ (((0 : Int) ≤ w32 (s1 + s0) ∧ w32 (s1 + s0) < 3072) ∧ Tq 300 0 [vI (M 22021 0 (w32 (s1 + s0)))] [] M (kI fun v1 M1 => ((0 : Int) ≤ s3 ∧ s3 < 512) ∧ bd (mset M1 22022 0 s3 v1) fun M2 => Tq 301 9 [vR 22 0, vI x1, vI x2, vI x3, vI x4, vI x5, vI x6, vI x7, vI x8, vI (w32 (x9 + 1)), vJ] [] M2 Q)) :=
  (show Bq 301 de_301 (List.drop 12 bk_301_9) [vR 22 0, vI x1, vI x2, vI x3, vI x4, vI x5, vI x6, vI x7, vI x8, vI x9, vJ] [vI s0, vI s1, vR 22021 0, vI s3, vR 22022 0] M Q ↔ (((0 : Int) ≤ w32 (s1 + s0) ∧ w32 (s1 + s0) < 3072) ∧ Tq 300 0 [vI (M 22021 0 (w32 (s1 + s0)))] [] M (kI fun v1 M1 => Bq 301 de_301 (List.drop 15 bk_301_9) [vR 22 0, vI x1, vI x2, vI x3, vI x4, vI x5, vI x6, vI x7, vI x8, vI x9, vJ] [vI v1, vI s3, vR 22022 0] M1 Q)) from Iff.rfl).trans (by simp only [t301_9_c15])
theorem t301_9_c6 {x1 x2 x3 x4 x5 x6 x7 x8 x9 s0 : Int} {M : Mem} {Q : AR → Mem → Prop} : Bq 301 de_301 (List.drop 6 bk_301_9) [vR 22 0, vI x1, vI x2, vI x3, vI x4, vI x5, vI x6, vI x7, vI x8, vI x9, vJ] [vI s0, vR 22022 0] M Q ↔ (((0 : Int) ≤ w32 (w32 (512 * x1) + x9) ∧ w32 (w32 (512 * x1) + x9) < 3072) ∧ Tq 300 0 [vI (M 22021 0 (w32 (w32 (512 * x1) + x9)))] [] M (kI fun v1 M1 => ((0 : Int) ≤ s0 ∧ s0 < 512) ∧ bd (mset M1 22022 0 s0 v1) fun M2 => Tq 301 9 [vR 22 0, vI x1, vI x2, vI x3, vI x4, vI x5, vI x6, vI x7, vI x8, vI (w32 (x9 + 1)), vJ] [] M2 Q)) :=
  (show Bq 301 de_301 (List.drop 6 bk_301_9) [vR 22 0, vI x1, vI x2, vI x3, vI x4, vI x5, vI x6, vI x7, vI x8, vI x9, vJ] [vI s0, vR 22022 0] M Q ↔ (Bq 301 de_301 (List.drop 12 bk_301_9) [vR 22 0, vI x1, vI x2, vI x3, vI x4, vI x5, vI x6, vI x7, vI x8, vI x9, vJ] [vI x9, vI (w32 (512 * x1)), vR 22021 0, vI s0, vR 22022 0] M Q) from Iff.rfl).trans (by simp only [t301_9_c12])
theorem t301_9 {x1 x2 x3 x4 x5 x6 x7 x8 x9 : Int} {M : Mem} {Q : AR → Mem → Prop} : Tq 301 9 [vR 22 0, vI x1, vI x2, vI x3, vI x4, vI x5, vI x6, vI x7, vI x8, vI x9, vJ] [] M Q ↔ (if x8 ≤ x9 then Tq 301 10 [vR 22 0, vI x1, vI x2, vI x3, vI x4, vI x5, vI x6, vI x7, vI x8, vJ, vJ] [] M Q else ((0 : Int) ≤ w32 (w32 (512 * x1) + x9) ∧ w32 (w32 (512 * x1) + x9) < 3072) ∧ Tq 300 0 [vI (M 22021 0 (w32 (w32 (512 * x1) + x9)))] [] M (kI fun v1 M1 => ((0 : Int) ≤ x9 ∧ x9 < 512) ∧ bd (mset M1 22022 0 x9 v1) fun M2 => Tq 301 9 [vR 22 0, vI x1, vI x2, vI x3, vI x4, vI x5, vI x6, vI x7, vI x8, vI (w32 (x9 + 1)), vJ] [] M2 Q)) :=
  (show Tq 301 9 [vR 22 0, vI x1, vI x2, vI x3, vI x4, vI x5, vI x6, vI x7, vI x8, vI x9, vJ] [] M Q ↔ (if x8 ≤ x9 then Tq 301 10 [vR 22 0, vI x1, vI x2, vI x3, vI x4, vI x5, vI x6, vI x7, vI x8, vJ, vJ] [] M Q else Bq 301 de_301 (List.drop 6 bk_301_9) [vR 22 0, vI x1, vI x2, vI x3, vI x4, vI x5, vI x6, vI x7, vI x8, vI x9, vJ] [vI x9, vR 22022 0] M Q) from Tq_blk (is := bk_301_9) (dd := de_301) rfl rfl).trans (by simp only [t301_9_c6])
/-- EarthOfficeModel pick block at 158 -/
theorem t301_10 {x1 x2 x3 x4 x5 x6 x7 x8 : Int} {M : Mem} {Q : AR → Mem → Prop} : Tq 301 10 [vR 22 0, vI x1, vI x2, vI x3, vI x4, vI x5, vI x6, vI x7, vI x8, vJ, vJ] [] M Q ↔ (if ¬ x2 = 0 then Tq 301 11 [vR 22 0, vI x1, vJ, vJ, vJ, vJ, vI x6, vI x7, vI x8, vJ, vJ] [] M Q else Tq 302 0 [vR 22 0, vI x8, vI x3, vI x4, vI x5, vJ, vJ, vJ, vJ] [] M (kI fun v1 M1 => Tq 301 12 [vR 22 0, vI x1, vJ, vJ, vJ, vJ, vI x6, vI x7, vJ, vJ, vJ] [vI v1] M1 Q)) :=
  Tq_blk (is := bk_301_10) (dd := de_301) rfl rfl
/-- EarthOfficeModel pick block at 176 -/
theorem t301_11 {x1 x6 x7 x8 : Int} {M : Mem} {Q : AR → Mem → Prop} : Tq 301 11 [vR 22 0, vI x1, vJ, vJ, vJ, vJ, vI x6, vI x7, vI x8, vJ, vJ] [] M Q ↔ (Tq 303 0 [vR 22 0, vI x8, vJ, vJ, vJ, vJ] [] M (kI fun v1 M1 => Tq 301 12 [vR 22 0, vI x1, vJ, vJ, vJ, vJ, vI x6, vI x7, vJ, vJ, vJ] [vI v1] M1 Q)) :=
  Tq_blk (is := bk_301_11) (dd := de_301) rfl rfl
/-- EarthOfficeModel pick block at 182 -/
theorem t301_12 {x1 x6 x7 s0 : Int} {M : Mem} {Q : AR → Mem → Prop} : Tq 301 12 [vR 22 0, vI x1, vJ, vJ, vJ, vJ, vI x6, vI x7, vJ, vJ, vJ] [vI s0] M Q ↔ (if ¬ s0 = (-99999999) then Tq 301 13 [vR 22 0, vI x1, vJ, vJ, vJ, vJ, vI x6, vI x7, vJ, vI s0, vJ] [] M Q else Q (.inl (some (vI (-2)))) M) :=
  Tq_blk (is := bk_301_12) (dd := de_301) rfl rfl
/-- EarthOfficeModel pick block at 194 -/
theorem t301_13 {x1 x6 x7 x9 : Int} {M : Mem} {Q : AR → Mem → Prop} : Tq 301 13 [vR 22 0, vI x1, vJ, vJ, vJ, vJ, vI x6, vI x7, vJ, vI x9, vJ] [] M Q ↔ (if ¬ M 22 0 23 = (64 : Int) then Tq 301 14 [vR 22 0, vI x1, vJ, vJ, vJ, vJ, vI x6, vI x7, vJ, vI x9, vJ] [] M Q else Q (.inl (some (vI (-3)))) M) :=
  Tq_blk (is := bk_301_13) (dd := de_301) rfl rfl
/-- EarthOfficeModel pick block at 206 -/
theorem t301_14 {x1 x6 x7 x9 : Int} {M : Mem} {Q : AR → Mem → Prop} : Tq 301 14 [vR 22 0, vI x1, vJ, vJ, vJ, vJ, vI x6, vI x7, vJ, vI x9, vJ] [] M Q ↔ (if ¬ x9 = 0 then Tq 301 15 [vR 22 0, vI x1, vJ, vJ, vJ, vJ, vI x6, vI x7, vJ, vI x9, vJ] [] M Q else Tq 301 16 [vR 22 0, vI x1, vJ, vJ, vJ, vJ, vI x6, vI x7, vJ, vI x9, vJ] [vI 0] M Q) :=
  Tq_blk (is := bk_301_14) (dd := de_301) rfl rfl
/-- EarthOfficeModel pick block at 215 -/
theorem t301_15_c6 {x1 x6 x7 x9 s1 : Int} {M : Mem} {Q : AR → Mem → Prop} : Bq 301 de_301 (List.drop 6 bk_301_15) [vR 22 0, vI x1, vJ, vJ, vJ, vJ, vI x6, vI x7, vJ, vI x9, vJ] [vR 22022 0, vI s1] M Q ↔ (((0 : Int) ≤ w32 (x9 - 1) ∧ w32 (x9 - 1) < 512) ∧ Tq 7 0 [vI s1, vI (M 22022 0 (w32 (x9 - 1)))] [] M (kI fun v1 M1 => Tq 301 16 [vR 22 0, vI x1, vJ, vJ, vJ, vJ, vI x6, vI x7, vJ, vI x9, vJ] [vI v1] M1 Q)) :=
  Iff.rfl
theorem t301_15 {x1 x6 x7 x9 : Int} {M : Mem} {Q : AR → Mem → Prop} : Tq 301 15 [vR 22 0, vI x1, vJ, vJ, vJ, vJ, vI x6, vI x7, vJ, vI x9, vJ] [] M Q ↔ (((0 : Int) ≤ x9 ∧ x9 < 512) ∧ ((0 : Int) ≤ w32 (x9 - 1) ∧ w32 (x9 - 1) < 512) ∧ Tq 7 0 [vI (M 22022 0 x9), vI (M 22022 0 (w32 (x9 - 1)))] [] M (kI fun v1 M1 => Tq 301 16 [vR 22 0, vI x1, vJ, vJ, vJ, vJ, vI x6, vI x7, vJ, vI x9, vJ] [vI v1] M1 Q)) :=
  (show Tq 301 15 [vR 22 0, vI x1, vJ, vJ, vJ, vJ, vI x6, vI x7, vJ, vI x9, vJ] [] M Q ↔ (((0 : Int) ≤ x9 ∧ x9 < 512) ∧ Bq 301 de_301 (List.drop 6 bk_301_15) [vR 22 0, vI x1, vJ, vJ, vJ, vJ, vI x6, vI x7, vJ, vI x9, vJ] [vR 22022 0, vI (M 22022 0 x9)] M Q) from Tq_blk (is := bk_301_15) (dd := de_301) rfl rfl).trans (by simp only [t301_15_c6])
/-- EarthOfficeModel pick block at 234 -/
theorem t301_16_c12 {x1 x6 x7 x9 x10 s0 s1 : Int} {M : Mem} {Q : AR → Mem → Prop} : Bq 301 de_301 (List.drop 12 bk_301_16) [vR 22 0, vI x1, vJ, vJ, vJ, vJ, vI x6, vI x7, vJ, vI x9, vI x10] [vI s0, vI s1, vR 22 0] M Q ↔ (Tq 306 0 [vR 22 0, vI s1, vI s0, vI x6, vI x7, vI x10, vJ] [] M (kI fun v1 M1 => Q (.inl (some (vI v1))) M1)) :=
  Iff.rfl
theorem t301_16_c6 {x1 x6 x7 x9 x10 s0 : Int} {M : Mem} {Q : AR → Mem → Prop} : Bq 301 de_301 (List.drop 6 bk_301_16) [vR 22 0, vI x1, vJ, vJ, vJ, vJ, vI x6, vI x7, vJ, vI x9, vI x10] [vI s0, vR 22 0] M Q ↔ (((0 : Int) ≤ x1 ∧ x1 < 6) ∧ Tq 306 0 [vR 22 0, vI s0, vI (w32 (M 22020 0 x1 + x9)), vI x6, vI x7, vI x10, vJ] [] M (kI fun v1 M1 => Q (.inl (some (vI v1))) M1)) :=
  (show Bq 301 de_301 (List.drop 6 bk_301_16) [vR 22 0, vI x1, vJ, vJ, vJ, vJ, vI x6, vI x7, vJ, vI x9, vI x10] [vI s0, vR 22 0] M Q ↔ (((0 : Int) ≤ x1 ∧ x1 < 6) ∧ Bq 301 de_301 (List.drop 12 bk_301_16) [vR 22 0, vI x1, vJ, vJ, vJ, vJ, vI x6, vI x7, vJ, vI x9, vI x10] [vI (w32 (M 22020 0 x1 + x9)), vI s0, vR 22 0] M Q) from Iff.rfl).trans (by simp only [t301_16_c12])
theorem t301_16 {x1 x6 x7 x9 s0 : Int} {M : Mem} {Q : AR → Mem → Prop} : Tq 301 16 [vR 22 0, vI x1, vJ, vJ, vJ, vJ, vI x6, vI x7, vJ, vI x9, vJ] [vI s0] M Q ↔ (((0 : Int) ≤ x1 ∧ x1 < 6) ∧ ((0 : Int) ≤ x1 ∧ x1 < 6) ∧ Tq 306 0 [vR 22 0, vI (M 22019 0 x1), vI (w32 (M 22020 0 x1 + x9)), vI x6, vI x7, vI s0, vJ] [] M (kI fun v1 M1 => Q (.inl (some (vI v1))) M1)) :=
  (show Tq 301 16 [vR 22 0, vI x1, vJ, vJ, vJ, vJ, vI x6, vI x7, vJ, vI x9, vJ] [vI s0] M Q ↔ (((0 : Int) ≤ x1 ∧ x1 < 6) ∧ Bq 301 de_301 (List.drop 6 bk_301_16) [vR 22 0, vI x1, vJ, vJ, vJ, vJ, vI x6, vI x7, vJ, vI x9, vI s0] [vI (M 22019 0 x1), vR 22 0] M Q) from Tq_blk (is := bk_301_16) (dd := de_301) rfl rfl).trans (by simp only [t301_16_c6])
/-- EarthOfficeModel byRatio block at 0 -/
theorem t302_0 {x1 x2 x3 x4 : Int} {M : Mem} {Q : AR → Mem → Prop} : Tq 302 0 [vR 22 0, vI x1, vI x2, vI x3, vI x4, vJ, vJ, vJ, vJ] [] M Q ↔ (Tq 302 1 [vR 22 0, vI x1, vI x2, vI x3, vI x4, vI 0, vI 0, vI 0, vJ] [] M Q) :=
  Tq_blk (is := bk_302_0) (dd := de_302) rfl rfl
/-- EarthOfficeModel byRatio block at 9 -/
theorem t302_1_c39 {x1 x2 x3 x4 x5 x6 x7 x8 s0 s1 : Int} {M : Mem} {Q : AR → Mem → Prop} : Bq 302 de_302 (List.drop 39 bk_302_1) [vR 22 0, vI x1, vI x2, vI x3, vI x4, vI x5, vI x6, vI x7, vI x8] [vL s0, vL s1] M Q ↔ (if cmp64 s1 s0 ≤ 0 then Tq 302 2 [vR 22 0, vI x1, vI x2, vI x3, vI x4, vI x5, vI x6, vI x7, vJ] [] M Q else Q (.inl (some (vI x7))) M) :=
  Iff.rfl
theorem t302_1_c33 {x1 x2 x3 x4 x5 x6 x7 x8 s0 s1 : Int} {M : Mem} {Q : AR → Mem → Prop} : Bq 302 de_302 (List.drop 33 bk_302_1) [vR 22 0, vI x1, vI x2, vI x3, vI x4, vI x5, vI x6, vI x7, vI x8] [vL s0, vL s1] M Q ↔ (if cmp64 (w64 (s1 * s0)) (w64 (x4 * x6)) ≤ 0 then Tq 302 2 [vR 22 0, vI x1, vI x2, vI x3, vI x4, vI x5, vI x6, vI x7, vJ] [] M Q else Q (.inl (some (vI x7))) M) :=
  (show Bq 302 de_302 (List.drop 33 bk_302_1) [vR 22 0, vI x1, vI x2, vI x3, vI x4, vI x5, vI x6, vI x7, vI x8] [vL s0, vL s1] M Q ↔ (Bq 302 de_302 (List.drop 39 bk_302_1) [vR 22 0, vI x1, vI x2, vI x3, vI x4, vI x5, vI x6, vI x7, vI x8] [vL (w64 (x4 * x6)), vL (w64 (s1 * s0))] M Q) from Iff.rfl).trans (by simp only [t302_1_c39])
theorem t302_1_c27 {x1 x2 x3 x4 x5 x6 x7 x8 : Int} {M : Mem} {Q : AR → Mem → Prop} : Bq 302 de_302 (List.drop 27 bk_302_1) [vR 22 0, vI x1, vI x2, vI x3, vI x4, vI x5, vI x6, vI x7, vI x8] [] M Q ↔ (if x7 < x3 then Tq 302 2 [vR 22 0, vI x1, vI x2, vI x3, vI x4, vI x5, vI x6, vI x7, vJ] [] M Q else if cmp64 (w64 (16 * x5)) (w64 (x4 * x6)) ≤ 0 then Tq 302 2 [vR 22 0, vI x1, vI x2, vI x3, vI x4, vI x5, vI x6, vI x7, vJ] [] M Q else Q (.inl (some (vI x7))) M) :=
  (show Bq 302 de_302 (List.drop 27 bk_302_1) [vR 22 0, vI x1, vI x2, vI x3, vI x4, vI x5, vI x6, vI x7, vI x8] [] M Q ↔ (if x7 < x3 then Tq 302 2 [vR 22 0, vI x1, vI x2, vI x3, vI x4, vI x5, vI x6, vI x7, vJ] [] M Q else Bq 302 de_302 (List.drop 33 bk_302_1) [vR 22 0, vI x1, vI x2, vI x3, vI x4, vI x5, vI x6, vI x7, vI x8] [vL x5, vL 16] M Q) from Iff.rfl).trans (by simp only [t302_1_c33])
theorem t302_1_c21 {x1 x2 x3 x4 x5 x6 x7 x8 s0 s1 : Int} {M : Mem} {Q : AR → Mem → Prop} : Bq 302 de_302 (List.drop 21 bk_302_1) [vR 22 0, vI x1, vI x2, vI x3, vI x4, vI x5, vI x6, vI x7, vI x8] [vI s0, vI s1] M Q ↔ ((¬ x3 = 0) ∧ if x7 < x3 then Tq 302 2 [vR 22 0, vI x1, vI x2, vI x3, vI x4, vI x5, vI (w32 (s1 + div32 (w32 (s0 - x6)) x3)), vI x7, vJ] [] M Q else if cmp64 (w64 (16 * x5)) (w64 (x4 * (w32 (s1 + div32 (w32 (s0 - x6)) x3)))) ≤ 0 then Tq 302 2 [vR 22 0, vI x1, vI x2, vI x3, vI x4, vI x5, vI (w32 (s1 + div32 (w32 (s0 - x6)) x3)), vI x7, vJ] [] M Q else Q (.inl (some (vI x7))) M) :=
  (show Bq 302 de_302 (List.drop 21 bk_302_1) [vR 22 0, vI x1, vI x2, vI x3, vI x4, vI x5, vI x6, vI x7, vI x8] [vI s0, vI s1] M Q ↔ ((¬ x3 = 0) ∧ Bq 302 de_302 (List.drop 27 bk_302_1) [vR 22 0, vI x1, vI x2, vI x3, vI x4, vI x5, vI (w32 (s1 + div32 (w32 (s0 - x6)) x3)), vI x7, vI x8] [] M Q) from Iff.rfl).trans (by simp only [t302_1_c27])
theorem t302_1_c15 {x1 x2 x3 x4 x5 x6 x7 x8 s0 s1 : Int} {M : Mem} {Q : AR → Mem → Prop} : Bq 302 de_302 (List.drop 15 bk_302_1) [vR 22 0, vI x1, vI x2, vI x3, vI x4, vI x5, vI x6, vI x7, vI x8] [vI s0, vI s1] M Q ↔ ((¬ x2 = 0) ∧ (¬ x3 = 0) ∧ if x7 < x3 then Tq 302 2 [vR 22 0, vI x1, vI x2, vI x3, vI x4, vI (w32 (s1 + div32 s0 x2)), vI (w32 (x6 + div32 (w32 (x8 - x6)) x3)), vI x7, vJ] [] M Q else if cmp64 (w64 (16 * (w32 (s1 + div32 s0 x2)))) (w64 (x4 * (w32 (x6 + div32 (w32 (x8 - x6)) x3)))) ≤ 0 then Tq 302 2 [vR 22 0, vI x1, vI x2, vI x3, vI x4, vI (w32 (s1 + div32 s0 x2)), vI (w32 (x6 + div32 (w32 (x8 - x6)) x3)), vI x7, vJ] [] M Q else Q (.inl (some (vI x7))) M) :=
  (show Bq 302 de_302 (List.drop 15 bk_302_1) [vR 22 0, vI x1, vI x2, vI x3, vI x4, vI x5, vI x6, vI x7, vI x8] [vI s0, vI s1] M Q ↔ ((¬ x2 = 0) ∧ Bq 302 de_302 (List.drop 21 bk_302_1) [vR 22 0, vI x1, vI x2, vI x3, vI x4, vI (w32 (s1 + div32 s0 x2)), vI x6, vI x7, vI x8] [vI x8, vI x6] M Q) from Iff.rfl).trans (by simp only [t302_1_c21])
theorem t302_1_c9 {x1 x2 x3 x4 x5 x6 x7 s0 s1 : Int} {M : Mem} {Q : AR → Mem → Prop} : Bq 302 de_302 (List.drop 9 bk_302_1) [vR 22 0, vI x1, vI x2, vI x3, vI x4, vI x5, vI x6, vI x7, vJ] [vI s0, vI s1] M Q ↔ ((¬ x2 = 0) ∧ (¬ x3 = 0) ∧ if x7 < x3 then Tq 302 2 [vR 22 0, vI x1, vI x2, vI x3, vI x4, vI (w32 (x5 + div32 (w32 (w32 (s1 * s0) - x5)) x2)), vI (w32 (x6 + div32 (w32 (w32 (s1 * s0) - x6)) x3)), vI x7, vJ] [] M Q else if cmp64 (w64 (16 * (w32 (x5 + div32 (w32 (w32 (s1 * s0) - x5)) x2)))) (w64 (x4 * (w32 (x6 + div32 (w32 (w32 (s1 * s0) - x6)) x3)))) ≤ 0 then Tq 302 2 [vR 22 0, vI x1, vI x2, vI x3, vI x4, vI (w32 (x5 + div32 (w32 (w32 (s1 * s0) - x5)) x2)), vI (w32 (x6 + div32 (w32 (w32 (s1 * s0) - x6)) x3)), vI x7, vJ] [] M Q else Q (.inl (some (vI x7))) M) :=
  (show Bq 302 de_302 (List.drop 9 bk_302_1) [vR 22 0, vI x1, vI x2, vI x3, vI x4, vI x5, vI x6, vI x7, vJ] [vI s0, vI s1] M Q ↔ (Bq 302 de_302 (List.drop 15 bk_302_1) [vR 22 0, vI x1, vI x2, vI x3, vI x4, vI x5, vI x6, vI x7, vI (w32 (s1 * s0))] [vI (w32 (w32 (s1 * s0) - x5)), vI x5] M Q) from Iff.rfl).trans (by simp only [t302_1_c15])
theorem t302_1_c6 {x1 x2 x3 x4 x5 x6 x7 s1 : Int} {M : Mem} {Q : AR → Mem → Prop} : Bq 302 de_302 (List.drop 6 bk_302_1) [vR 22 0, vI x1, vI x2, vI x3, vI x4, vI x5, vI x6, vI x7, vJ] [vR 22022 0, vI s1] M Q ↔ (((0 : Int) ≤ x7 ∧ x7 < 512) ∧ Tq 13 0 [vI (M 22022 0 x7)] [] M (kI fun v1 M1 => (¬ x2 = 0) ∧ (¬ x3 = 0) ∧ if x7 < x3 then Tq 302 2 [vR 22 0, vI x1, vI x2, vI x3, vI x4, vI (w32 (x5 + div32 (w32 (w32 (s1 * v1) - x5)) x2)), vI (w32 (x6 + div32 (w32 (w32 (s1 * v1) - x6)) x3)), vI x7, vJ] [] M1 Q else if cmp64 (w64 (16 * (w32 (x5 + div32 (w32 (w32 (s1 * v1) - x5)) x2)))) (w64 (x4 * (w32 (x6 + div32 (w32 (w32 (s1 * v1) - x6)) x3)))) ≤ 0 then Tq 302 2 [vR 22 0, vI x1, vI x2, vI x3, vI x4, vI (w32 (x5 + div32 (w32 (w32 (s1 * v1) - x5)) x2)), vI (w32 (x6 + div32 (w32 (w32 (s1 * v1) - x6)) x3)), vI x7, vJ] [] M1 Q else Q (.inl (some (vI x7))) M1)) :=
  (show Bq 302 de_302 (List.drop 6 bk_302_1) [vR 22 0, vI x1, vI x2, vI x3, vI x4, vI x5, vI x6, vI x7, vJ] [vR 22022 0, vI s1] M Q ↔ (((0 : Int) ≤ x7 ∧ x7 < 512) ∧ Tq 13 0 [vI (M 22022 0 x7)] [] M (kI fun v1 M1 => Bq 302 de_302 (List.drop 9 bk_302_1) [vR 22 0, vI x1, vI x2, vI x3, vI x4, vI x5, vI x6, vI x7, vJ] [vI v1, vI s1] M1 Q)) from Iff.rfl).trans (by simp only [t302_1_c9])
theorem t302_1 {x1 x2 x3 x4 x5 x6 x7 : Int} {M : Mem} {Q : AR → Mem → Prop} : Tq 302 1 [vR 22 0, vI x1, vI x2, vI x3, vI x4, vI x5, vI x6, vI x7, vJ] [] M Q ↔ (if x1 ≤ x7 then Tq 302 3 [vJ, vJ, vJ, vJ, vJ, vJ, vJ, vJ, vJ] [] M Q else ((0 : Int) ≤ x7 ∧ x7 < 512) ∧ Tq 13 0 [vI (M 22022 0 x7)] [] M (kI fun v1 M1 => (¬ x2 = 0) ∧ (¬ x3 = 0) ∧ if x7 < x3 then Tq 302 2 [vR 22 0, vI x1, vI x2, vI x3, vI x4, vI (w32 (x5 + div32 (w32 (w32 (256 * v1) - x5)) x2)), vI (w32 (x6 + div32 (w32 (w32 (256 * v1) - x6)) x3)), vI x7, vJ] [] M1 Q else if cmp64 (w64 (16 * (w32 (x5 + div32 (w32 (w32 (256 * v1) - x5)) x2)))) (w64 (x4 * (w32 (x6 + div32 (w32 (w32 (256 * v1) - x6)) x3)))) ≤ 0 then Tq 302 2 [vR 22 0, vI x1, vI x2, vI x3, vI x4, vI (w32 (x5 + div32 (w32 (w32 (256 * v1) - x5)) x2)), vI (w32 (x6 + div32 (w32 (w32 (256 * v1) - x6)) x3)), vI x7, vJ] [] M1 Q else Q (.inl (some (vI x7))) M1)) :=
  (show Tq 302 1 [vR 22 0, vI x1, vI x2, vI x3, vI x4, vI x5, vI x6, vI x7, vJ] [] M Q ↔ (if x1 ≤ x7 then Tq 302 3 [vJ, vJ, vJ, vJ, vJ, vJ, vJ, vJ, vJ] [] M Q else Bq 302 de_302 (List.drop 6 bk_302_1) [vR 22 0, vI x1, vI x2, vI x3, vI x4, vI x5, vI x6, vI x7, vJ] [vR 22022 0, vI 256] M Q) from Tq_blk (is := bk_302_1) (dd := de_302) rfl rfl).trans (by simp only [t302_1_c6])
/-- EarthOfficeModel byRatio block at 82 -/
theorem t302_2 {x1 x2 x3 x4 x5 x6 x7 : Int} {M : Mem} {Q : AR → Mem → Prop} : Tq 302 2 [vR 22 0, vI x1, vI x2, vI x3, vI x4, vI x5, vI x6, vI x7, vJ] [] M Q ↔ (Tq 302 1 [vR 22 0, vI x1, vI x2, vI x3, vI x4, vI x5, vI x6, vI (w32 (x7 + 1)), vJ] [] M Q) :=
  Tq_blk (is := bk_302_2) (dd := de_302) rfl rfl
/-- EarthOfficeModel byRatio block at 88 -/
theorem t302_3 {M : Mem} {Q : AR → Mem → Prop} : Tq 302 3 [vJ, vJ, vJ, vJ, vJ, vJ, vJ, vJ, vJ] [] M Q ↔ (Q (.inl (some (vI (-99999999)))) M) :=
  Tq_blk (is := bk_302_3) (dd := de_302) rfl rfl
/-- EarthOfficeModel byVariance block at 0 -/
theorem t303_0 {x1 : Int} {M : Mem} {Q : AR → Mem → Prop} : Tq 303 0 [vR 22 0, vI x1, vJ, vJ, vJ, vJ] [] M Q ↔ (Tq 304 0 [vR 22 0, vI 0, vI x1, vJ, vJ, vJ, vJ, vJ, vJ, vJ] [] M (kI fun v1 M1 => Tq 303 1 [vR 22 0, vI x1, vI (-99999999), vI (w32 (x1 * v1)), vI 2, vJ] [] M1 Q)) :=
  Tq_blk (is := bk_303_0) (dd := de_303) rfl rfl
/-- EarthOfficeModel byVariance block at 15 -/
theorem t303_1 {x1 x2 x3 x4 : Int} {M : Mem} {Q : AR → Mem → Prop} : Tq 303 1 [vR 22 0, vI x1, vI x2, vI x3, vI x4, vJ] [] M Q ↔ (if w32 (x1 - 2) < x4 then Tq 303 3 [vJ, vJ, vI x2, vJ, vJ, vJ] [] M Q else Tq 304 0 [vR 22 0, vI 0, vI x4, vJ, vJ, vJ, vJ, vJ, vJ, vJ] [] M (kI fun v1 M1 => Tq 304 0 [vR 22 0, vI x4, vI x1, vJ, vJ, vJ, vJ, vJ, vJ, vJ] [] M1 (kI fun v2 M2 => if x3 ≤ w32 (w32 (x4 * v1) + w32 ((w32 (x1 - x4)) * v2)) then Tq 303 2 [vR 22 0, vI x1, vI x2, vI x3, vI x4, vJ] [] M2 Q else Tq 303 2 [vR 22 0, vI x1, vI x4, vI (w32 (w32 (x4 * v1) + w32 ((w32 (x1 - x4)) * v2))), vI x4, vJ] [] M2 Q))) :=
  Tq_blk (is := bk_303_1) (dd := de_303) rfl rfl
/-- EarthOfficeModel byVariance block at 60 -/
theorem t303_2 {x1 x2 x3 x4 : Int} {M : Mem} {Q : AR → Mem → Prop} : Tq 303 2 [vR 22 0, vI x1, vI x2, vI x3, vI x4, vJ] [] M Q ↔ (Tq 303 1 [vR 22 0, vI x1, vI x2, vI x3, vI (w32 (x4 + 1)), vJ] [] M Q) :=
  Tq_blk (is := bk_303_2) (dd := de_303) rfl rfl
/-- EarthOfficeModel byVariance block at 66 -/
theorem t303_3 {x2 : Int} {M : Mem} {Q : AR → Mem → Prop} : Tq 303 3 [vJ, vJ, vI x2, vJ, vJ, vJ] [] M Q ↔ (Q (.inl (some (vI x2))) M) :=
  Tq_blk (is := bk_303_3) (dd := de_303) rfl rfl
/-- EarthOfficeModel spread block at 0 -/
theorem t304_0 {x1 x2 : Int} {M : Mem} {Q : AR → Mem → Prop} : Tq 304 0 [vR 22 0, vI x1, vI x2, vJ, vJ, vJ, vJ, vJ, vJ, vJ] [] M Q ↔ (Tq 304 1 [vR 22 0, vJ, vI x2, vL (w32 (x2 - x1)), vJ, vL 0, vJ, vL 0, vJ, vI x1] [] M Q) :=
  Tq_blk (is := bk_304_0) (dd := de_304) rfl rfl
/-- EarthOfficeModel spread block at 14 -/
theorem t304_1_c24 {x2 x3 x5 x7 x9 s0 : Int} {M : Mem} {Q : AR → Mem → Prop} : Bq 304 de_304 (List.drop 24 bk_304_1) [vR 22 0, vJ, vI x2, vL x3, vJ, vL x5, vJ, vL x7, vJ, vI x9] [vL s0] M Q ↔ (Tq 304 1 [vR 22 0, vJ, vI x2, vL x3, vJ, vL x5, vJ, vL s0, vJ, vI (w32 (x9 + 1))] [] M Q) :=
  Iff.rfl
theorem t304_1_c18 {x2 x3 x5 x7 x9 s1 s2 : Int} {M : Mem} {Q : AR → Mem → Prop} : Bq 304 de_304 (List.drop 18 bk_304_1) [vR 22 0, vJ, vI x2, vL x3, vJ, vL x5, vJ, vL x7, vJ, vI x9] [vR 22 0, vL s1, vL s2] M Q ↔ (((0 : Int) ≤ x9 ∧ x9 < 512) ∧ Tq 304 1 [vR 22 0, vJ, vI x2, vL x3, vJ, vL x5, vJ, vL (w64 (s2 + w64 (s1 * (M 22022 0 x9)))), vJ, vI (w32 (x9 + 1))] [] M Q) :=
  (show Bq 304 de_304 (List.drop 18 bk_304_1) [vR 22 0, vJ, vI x2, vL x3, vJ, vL x5, vJ, vL x7, vJ, vI x9] [vR 22 0, vL s1, vL s2] M Q ↔ (((0 : Int) ≤ x9 ∧ x9 < 512) ∧ Bq 304 de_304 (List.drop 24 bk_304_1) [vR 22 0, vJ, vI x2, vL x3, vJ, vL x5, vJ, vL x7, vJ, vI x9] [vL (w64 (s2 + w64 (s1 * (M 22022 0 x9))))] M Q) from Iff.rfl).trans (by simp only [t304_1_c24])
theorem t304_1_c12 {x2 x3 x5 x7 x9 s0 : Int} {M : Mem} {Q : AR → Mem → Prop} : Bq 304 de_304 (List.drop 12 bk_304_1) [vR 22 0, vJ, vI x2, vL x3, vJ, vL x5, vJ, vL x7, vJ, vI x9] [vL s0] M Q ↔ (((0 : Int) ≤ x9 ∧ x9 < 512) ∧ ((0 : Int) ≤ x9 ∧ x9 < 512) ∧ Tq 304 1 [vR 22 0, vJ, vI x2, vL x3, vJ, vL x5, vJ, vL (w64 (s0 + w64 ((M 22022 0 x9) * (M 22022 0 x9)))), vJ, vI (w32 (x9 + 1))] [] M Q) :=
  (show Bq 304 de_304 (List.drop 12 bk_304_1) [vR 22 0, vJ, vI x2, vL x3, vJ, vL x5, vJ, vL x7, vJ, vI x9] [vL s0] M Q ↔ (((0 : Int) ≤ x9 ∧ x9 < 512) ∧ Bq 304 de_304 (List.drop 18 bk_304_1) [vR 22 0, vJ, vI x2, vL x3, vJ, vL x5, vJ, vL x7, vJ, vI x9] [vR 22 0, vL (M 22022 0 x9), vL s0] M Q) from Iff.rfl).trans (by simp only [t304_1_c18])
theorem t304_1_c6 {x2 x3 x5 x7 x9 s1 : Int} {M : Mem} {Q : AR → Mem → Prop} : Bq 304 de_304 (List.drop 6 bk_304_1) [vR 22 0, vJ, vI x2, vL x3, vJ, vL x5, vJ, vL x7, vJ, vI x9] [vR 22022 0, vL s1] M Q ↔ (((0 : Int) ≤ x9 ∧ x9 < 512) ∧ ((0 : Int) ≤ x9 ∧ x9 < 512) ∧ ((0 : Int) ≤ x9 ∧ x9 < 512) ∧ Tq 304 1 [vR 22 0, vJ, vI x2, vL x3, vJ, vL (w64 (s1 + M 22022 0 x9)), vJ, vL (w64 (x7 + w64 ((M 22022 0 x9) * (M 22022 0 x9)))), vJ, vI (w32 (x9 + 1))] [] M Q) :=
  (show Bq 304 de_304 (List.drop 6 bk_304_1) [vR 22 0, vJ, vI x2, vL x3, vJ, vL x5, vJ, vL x7, vJ, vI x9] [vR 22022 0, vL s1] M Q ↔ (((0 : Int) ≤ x9 ∧ x9 < 512) ∧ Bq 304 de_304 (List.drop 12 bk_304_1) [vR 22 0, vJ, vI x2, vL x3, vJ, vL (w64 (s1 + M 22022 0 x9)), vJ, vL x7, vJ, vI x9] [vL x7] M Q) from Iff.rfl).trans (by simp only [t304_1_c12])
theorem t304_1 {x2 x3 x5 x7 x9 : Int} {M : Mem} {Q : AR → Mem → Prop} : Tq 304 1 [vR 22 0, vJ, vI x2, vL x3, vJ, vL x5, vJ, vL x7, vJ, vI x9] [] M Q ↔ (if x2 ≤ x9 then Tq 304 2 [vJ, vJ, vJ, vL x3, vJ, vL x5, vJ, vL x7, vJ, vJ] [] M Q else ((0 : Int) ≤ x9 ∧ x9 < 512) ∧ ((0 : Int) ≤ x9 ∧ x9 < 512) ∧ ((0 : Int) ≤ x9 ∧ x9 < 512) ∧ Tq 304 1 [vR 22 0, vJ, vI x2, vL x3, vJ, vL (w64 (x5 + M 22022 0 x9)), vJ, vL (w64 (x7 + w64 ((M 22022 0 x9) * (M 22022 0 x9)))), vJ, vI (w32 (x9 + 1))] [] M Q) :=
  (show Tq 304 1 [vR 22 0, vJ, vI x2, vL x3, vJ, vL x5, vJ, vL x7, vJ, vI x9] [] M Q ↔ (if x2 ≤ x9 then Tq 304 2 [vJ, vJ, vJ, vL x3, vJ, vL x5, vJ, vL x7, vJ, vJ] [] M Q else Bq 304 de_304 (List.drop 6 bk_304_1) [vR 22 0, vJ, vI x2, vL x3, vJ, vL x5, vJ, vL x7, vJ, vI x9] [vR 22022 0, vL x5] M Q) from Tq_blk (is := bk_304_1) (dd := de_304) rfl rfl).trans (by simp only [t304_1_c6])
/-- EarthOfficeModel spread block at 61 -/
theorem t304_2_c12 {x3 x5 x7 s0 s1 : Int} {M : Mem} {Q : AR → Mem → Prop} : Bq 304 de_304 (List.drop 12 bk_304_2) [vJ, vJ, vJ, vL x3, vJ, vL x5, vJ, vL x7, vJ, vJ] [vL s0, vL s1] M Q ↔ (Tq 305 0 [vL (w64 (s1 + s0)), vJ, vJ, vJ, vJ, vJ, vJ] [] M (kI fun v1 M1 => Q (.inl (some (vI v1))) M1)) :=
  Iff.rfl
theorem t304_2_c6 {x3 x5 x7 s0 s1 s2 s3 : Int} {M : Mem} {Q : AR → Mem → Prop} : Bq 304 de_304 (List.drop 6 bk_304_2) [vJ, vJ, vJ, vL x3, vJ, vL x5, vJ, vL x7, vJ, vJ] [vL s0, vL s1, vL s2, vL s3] M Q ↔ ((¬ w64 (x3 * x3) = 0) ∧ Tq 305 0 [vL (w64 (s3 + div64 (w64 (s2 - (w64 (s1 * s0)))) (w64 (x3 * x3)))), vJ, vJ, vJ, vJ, vJ, vJ] [] M (kI fun v1 M1 => Q (.inl (some (vI v1))) M1)) :=
  (show Bq 304 de_304 (List.drop 6 bk_304_2) [vJ, vJ, vJ, vL x3, vJ, vL x5, vJ, vL x7, vJ, vJ] [vL s0, vL s1, vL s2, vL s3] M Q ↔ ((¬ w64 (x3 * x3) = 0) ∧ Bq 304 de_304 (List.drop 12 bk_304_2) [vJ, vJ, vJ, vL x3, vJ, vL x5, vJ, vL x7, vJ, vJ] [vL (div64 (w64 (s2 - (w64 (s1 * s0)))) (w64 (x3 * x3))), vL s3] M Q) from Iff.rfl).trans (by simp only [t304_2_c12])
theorem t304_2 {x3 x5 x7 : Int} {M : Mem} {Q : AR → Mem → Prop} : Tq 304 2 [vJ, vJ, vJ, vL x3, vJ, vL x5, vJ, vL x7, vJ, vJ] [] M Q ↔ ((¬ w64 (x3 * x3) = 0) ∧ Tq 305 0 [vL (w64 (1 + div64 (w64 (w64 (x3 * x7) - (w64 (x5 * x5)))) (w64 (x3 * x3)))), vJ, vJ, vJ, vJ, vJ, vJ] [] M (kI fun v1 M1 => Q (.inl (some (vI v1))) M1)) :=
  (show Tq 304 2 [vJ, vJ, vJ, vL x3, vJ, vL x5, vJ, vL x7, vJ, vJ] [] M Q ↔ (Bq 304 de_304 (List.drop 6 bk_304_2) [vJ, vJ, vJ, vL x3, vJ, vL x5, vJ, vL x7, vJ, vJ] [vL x5, vL x5, vL (w64 (x3 * x7)), vL 1] M Q) from Tq_blk (is := bk_304_2) (dd := de_304) rfl rfl).trans (by simp only [t304_2_c6])
/-- EarthOfficeModel lg block at 0 -/
theorem t305_0 {x0 : Int} {M : Mem} {Q : AR → Mem → Prop} : Tq 305 0 [vL x0, vJ, vJ, vJ, vJ, vJ, vJ] [] M Q ↔ (Tq 305 1 [vL x0, vJ, vI 0, vJ, vJ, vJ, vJ] [] M Q) :=
  Tq_blk (is := bk_305_0) (dd := de_305) rfl rfl
/-- EarthOfficeModel lg block at 2 -/
theorem t305_1 {x0 x2 : Int} {M : Mem} {Q : AR → Mem → Prop} : Tq 305 1 [vL x0, vJ, vI x2, vJ, vJ, vJ, vJ] [] M Q ↔ (if cmp64 (shr64 x0 x2) 1 ≤ 0 then Tq 305 2 [vL x0, vJ, vI x2, vJ, vJ, vJ, vJ] [] M Q else Tq 305 1 [vL x0, vJ, vI (w32 (x2 + 1)), vJ, vJ, vJ, vJ] [] M Q) :=
  Tq_blk (is := bk_305_1) (dd := de_305) rfl rfl
/-- EarthOfficeModel lg block at 16 -/
theorem t305_2 {x0 x2 : Int} {M : Mem} {Q : AR → Mem → Prop} : Tq 305 2 [vL x0, vJ, vI x2, vJ, vJ, vJ, vJ] [] M Q ↔ (if x2 ≤ (30 : Int) then Tq 305 3 [vL x0, vJ, vI x2, vJ, vJ, vJ, vJ] [] M Q else Tq 305 4 [vJ, vJ, vI x2, vJ, vJ, vJ, vJ] [vL (shr64 x0 (w32 (x2 - 30)))] M Q) :=
  Tq_blk (is := bk_305_2) (dd := de_305) rfl rfl
/-- EarthOfficeModel lg block at 31 -/
theorem t305_3 {x0 x2 : Int} {M : Mem} {Q : AR → Mem → Prop} : Tq 305 3 [vL x0, vJ, vI x2, vJ, vJ, vJ, vJ] [] M Q ↔ (Tq 305 4 [vJ, vJ, vI x2, vJ, vJ, vJ, vJ] [vL (shl64 x0 (w32 (30 - x2)))] M Q) :=
  Tq_blk (is := bk_305_3) (dd := de_305) rfl rfl
/-- EarthOfficeModel lg block at 37 -/
theorem t305_4 {x2 s0 : Int} {M : Mem} {Q : AR → Mem → Prop} : Tq 305 4 [vJ, vJ, vI x2, vJ, vJ, vJ, vJ] [vL s0] M Q ↔ (Tq 305 5 [vJ, vJ, vI x2, vL s0, vJ, vI 0, vI 0] [] M Q) :=
  Tq_blk (is := bk_305_4) (dd := de_305) rfl rfl
/-- EarthOfficeModel lg block at 44 -/
theorem t305_5 {x2 x3 x5 x6 : Int} {M : Mem} {Q : AR → Mem → Prop} : Tq 305 5 [vJ, vJ, vI x2, vL x3, vJ, vI x5, vI x6] [] M Q ↔ (if (8 : Int) ≤ x6 then Tq 305 7 [vJ, vJ, vI x2, vJ, vJ, vI x5, vJ] [] M Q else if cmp64 (shr64 (w64 (x3 * x3)) 30) 2147483648 < 0 then Tq 305 6 [vJ, vJ, vI x2, vL (shr64 (w64 (x3 * x3)) 30), vJ, vI (w32 (x5 * 2)), vI x6] [] M Q else Tq 305 6 [vJ, vJ, vI x2, vL (shr64 (shr64 (w64 (x3 * x3)) 30) 1), vJ, vI (w32 (w32 (x5 * 2) + 1)), vI x6] [] M Q) :=
  Tq_blk (is := bk_305_5) (dd := de_305) rfl rfl
/-- EarthOfficeModel lg block at 79 -/
theorem t305_6 {x2 x3 x5 x6 : Int} {M : Mem} {Q : AR → Mem → Prop} : Tq 305 6 [vJ, vJ, vI x2, vL x3, vJ, vI x5, vI x6] [] M Q ↔ (Tq 305 5 [vJ, vJ, vI x2, vL x3, vJ, vI x5, vI (w32 (x6 + 1))] [] M Q) :=
  Tq_blk (is := bk_305_6) (dd := de_305) rfl rfl
/-- EarthOfficeModel lg block at 85 -/
theorem t305_7 {x2 x5 : Int} {M : Mem} {Q : AR → Mem → Prop} : Tq 305 7 [vJ, vJ, vI x2, vJ, vJ, vI x5, vJ] [] M Q ↔ (Q (.inl (some (vI (w32 (w32 (256 * x2) + x5))))) M) :=
  Tq_blk (is := bk_305_7) (dd := de_305) rfl rfl
/-- EarthOfficeModel picksOne block at 0 -/
theorem t306_0 {x1 x2 x3 x4 x5 : Int} {M : Mem} {Q : AR → Mem → Prop} : Tq 306 0 [vR 22 0, vI x1, vI x2, vI x3, vI x4, vI x5, vJ] [] M Q ↔ (((0 : Int) ≤ w32 (6 * (M 22 0 23)) ∧ w32 (6 * (M 22 0 23)) < 384) ∧ bd (mset M 22024 0 (w32 (6 * (M 22 0 23))) x1) fun M1 => ((0 : Int) ≤ w32 (w32 (6 * (M 22 0 23)) + 1) ∧ w32 (w32 (6 * (M 22 0 23)) + 1) < 384) ∧ bd (mset M1 22024 0 (w32 (w32 (6 * (M 22 0 23)) + 1)) x2) fun M2 => ((0 : Int) ≤ w32 (w32 (6 * (M 22 0 23)) + 2) ∧ w32 (w32 (6 * (M 22 0 23)) + 2) < 384) ∧ bd (mset M2 22024 0 (w32 (w32 (6 * (M 22 0 23)) + 2)) x3) fun M3 => ((0 : Int) ≤ w32 (w32 (6 * (M 22 0 23)) + 3) ∧ w32 (w32 (6 * (M 22 0 23)) + 3) < 384) ∧ bd (mset M3 22024 0 (w32 (w32 (6 * (M 22 0 23)) + 3)) x4) fun M4 => ((0 : Int) ≤ w32 (w32 (6 * (M 22 0 23)) + 4) ∧ w32 (w32 (6 * (M 22 0 23)) + 4) < 384) ∧ bd (mset M4 22024 0 (w32 (w32 (6 * (M 22 0 23)) + 4)) x5) fun M5 => ((0 : Int) ≤ w32 (w32 (6 * (M 22 0 23)) + 5) ∧ w32 (w32 (6 * (M 22 0 23)) + 5) < 384) ∧ bd (mset M5 22024 0 (w32 (w32 (6 * (M 22 0 23)) + 5)) (-99999999)) fun M6 => bd (mset M6 22 0 23 (w32 (M6 22 0 23 + 1))) fun M7 => Q (.inl (some (vI (w32 (M7 22 0 23 - 1))))) M7) :=
  Tq_blk (is := bk_306_0) (dd := de_306) rfl rfl
/-- EarthOfficeModel mark block at 0 -/
theorem t307_0 {x1 x2 x3 x4 : Int} {M : Mem} {Q : AR → Mem → Prop} : Tq 307 0 [vR 22 0, vI x1, vI x2, vI x3, vI x4] [] M Q ↔ (Tq 270 0 [vR 22 0, vI x1] [] M (kI fun v1 M1 => if v1 = 0 then Tq 307 1 [vJ, vJ, vJ, vJ, vJ] [] M1 Q else Tq 219 0 [vI x2] [] M1 (kI fun v2 M2 => if v2 = 0 then Tq 307 1 [vJ, vJ, vJ, vJ, vJ] [] M2 Q else Tq 189 0 [vI x3, vI 0, vI 1] [] M2 (kI fun v3 M3 => if v3 = 0 then Tq 307 1 [vJ, vJ, vJ, vJ, vJ] [] M3 Q else Tq 189 0 [vI x4, vI 1, vI 9] [] M3 (kI fun v4 M4 => if ¬ v4 = 0 then Tq 307 2 [vR 22 0, vI x1, vI x2, vI x3, vI x4] [] M4 Q else Tq 307 1 [vJ, vJ, vJ, vJ, vJ] [] M4 Q))))) :=
  Tq_blk (is := bk_307_0) (dd := de_307) rfl rfl
/-- EarthOfficeModel mark block at 35 -/
theorem t307_1 {M : Mem} {Q : AR → Mem → Prop} : Tq 307 1 [vJ, vJ, vJ, vJ, vJ] [] M Q ↔ (Q (.inl (some (vI (-1)))) M) :=
  Tq_blk (is := bk_307_1) (dd := de_307) rfl rfl
/-- EarthOfficeModel mark block at 37 -/
theorem t307_2 {x1 x2 x3 x4 : Int} {M : Mem} {Q : AR → Mem → Prop} : Tq 307 2 [vR 22 0, vI x1, vI x2, vI x3, vI x4] [] M Q ↔ (if ¬ M 22 0 23 = (64 : Int) then Tq 307 3 [vR 22 0, vI x1, vI x2, vI x3, vI x4] [] M Q else Tq 307 4 [vJ, vJ, vJ, vJ, vJ] [vI (-3)] M Q) :=
  Tq_blk (is := bk_307_2) (dd := de_307) rfl rfl
/-- EarthOfficeModel mark block at 51 -/
theorem t307_3 {x1 x2 x3 x4 : Int} {M : Mem} {Q : AR → Mem → Prop} : Tq 307 3 [vR 22 0, vI x1, vI x2, vI x3, vI x4] [] M Q ↔ (Tq 306 0 [vR 22 0, vI x1, vI x2, vI x3, vI x4, vI 0, vJ] [] M (kI fun v1 M1 => Tq 307 4 [vJ, vJ, vJ, vJ, vJ] [vI v1] M1 Q)) :=
  Tq_blk (is := bk_307_3) (dd := de_307) rfl rfl
/-- EarthOfficeModel mark block at 61 -/
theorem t307_4 {s0 : Int} {M : Mem} {Q : AR → Mem → Prop} : Tq 307 4 [vJ, vJ, vJ, vJ, vJ] [vI s0] M Q ↔ (Q (.inl (some (vI s0))) M) :=
  Tq_blk (is := bk_307_4) (dd := de_307) rfl rfl
/-- EarthOfficeModel picked block at 0 -/
theorem t308_0 {x1 x2 : Int} {M : Mem} {Q : AR → Mem → Prop} : Tq 308 0 [vR 22 0, vI x1, vI x2] [] M Q ↔ (Tq 189 0 [vI x1, vI 0, vI (w32 (M 22 0 23 - 1))] [] M (kI fun v1 M1 => if v1 = 0 then Tq 308 1 [vJ, vJ, vJ] [] M1 Q else Tq 189 0 [vI x2, vI 0, vI 5] [] M1 (kI fun v2 M2 => if v2 = 0 then Tq 308 1 [vJ, vJ, vJ] [] M2 Q else ((0 : Int) ≤ w32 (w32 (6 * x1) + x2) ∧ w32 (w32 (6 * x1) + x2) < 384) ∧ Tq 308 2 [vJ, vJ, vJ] [vI (M2 22024 0 (w32 (w32 (6 * x1) + x2)))] M2 Q))) :=
  Tq_blk (is := bk_308_0) (dd := de_308) rfl rfl
/-- EarthOfficeModel picked block at 37 -/
theorem t308_1 {M : Mem} {Q : AR → Mem → Prop} : Tq 308 1 [vJ, vJ, vJ] [] M Q ↔ (Tq 308 2 [vJ, vJ, vJ] [vI (-1)] M Q) :=
  Tq_blk (is := bk_308_1) (dd := de_308) rfl rfl
/-- EarthOfficeModel picked block at 38 -/
theorem t308_2 {s0 : Int} {M : Mem} {Q : AR → Mem → Prop} : Tq 308 2 [vJ, vJ, vJ] [vI s0] M Q ↔ (Q (.inl (some (vI s0))) M) :=
  Tq_blk (is := bk_308_2) (dd := de_308) rfl rfl
/-- EarthOfficeModel forget block at 0 -/
theorem t309_0 {M : Mem} {Q : AR → Mem → Prop} : Tq 309 0 [vR 22 0, vJ] [] M Q ↔ (bd (mset M 22 0 23 0) fun M1 => Q (.inl (some (vI (M 22 0 23)))) M1) :=
  Tq_blk (is := bk_309_0) (dd := de_309) rfl rfl
/-- EarthOfficeModel travel block at 0 -/
theorem t310_0 {x1 x2 x3 : Int} {M : Mem} {Q : AR → Mem → Prop} : Tq 310 0 [vR 22 0, vI x1, vI x2, vI x3] [] M Q ↔ (Tq 189 0 [vI x1, vI 0, vI 1] [] M (kI fun v1 M1 => if v1 = 0 then Tq 310 1 [vJ, vJ, vJ, vJ] [] M1 Q else Tq 189 0 [vI x2, vI 0, vI 89] [] M1 (kI fun v2 M2 => if v2 = 0 then Tq 310 1 [vJ, vJ, vJ, vJ] [] M2 Q else Tq 189 0 [vI x3, vI 0, vI 15] [] M2 (kI fun v3 M3 => if v3 = 0 then Tq 310 1 [vJ, vJ, vJ, vJ] [] M3 Q else Tq 262 0 [vR 22 0, vI x1, vI x2, vI x3] [] M3 (kI fun v4 M4 => Tq 310 2 [vJ, vJ, vJ, vJ] [vI v4] M4 Q))))) :=
  Tq_blk (is := bk_310_0) (dd := de_310) rfl rfl
/-- EarthOfficeModel travel block at 39 -/
theorem t310_1 {M : Mem} {Q : AR → Mem → Prop} : Tq 310 1 [vJ, vJ, vJ, vJ] [] M Q ↔ (Tq 310 2 [vJ, vJ, vJ, vJ] [vI (-1)] M Q) :=
  Tq_blk (is := bk_310_1) (dd := de_310) rfl rfl
/-- EarthOfficeModel travel block at 40 -/
theorem t310_2 {s0 : Int} {M : Mem} {Q : AR → Mem → Prop} : Tq 310 2 [vJ, vJ, vJ, vJ] [vI s0] M Q ↔ (Q (.inl (some (vI s0))) M) :=
  Tq_blk (is := bk_310_2) (dd := de_310) rfl rfl
/-- EarthOfficeModel inverse block at 0 -/
theorem t311_0 {x1 x2 x3 : Int} {M : Mem} {Q : AR → Mem → Prop} : Tq 311 0 [vR 22 0, vI x1, vI x2, vI x3, vJ] [] M Q ↔ (Tq 189 0 [vI x1, vI 0, vI 1] [] M (kI fun v1 M1 => if v1 = 0 then Tq 311 1 [vJ, vJ, vJ, vJ, vJ] [] M1 Q else Tq 189 0 [vI x3, vI 0, vI 15] [] M1 (kI fun v2 M2 => if ¬ v2 = 0 then Tq 311 2 [vR 22 0, vI x1, vI x2, vI x3, vJ] [] M2 Q else Tq 311 1 [vJ, vJ, vJ, vJ, vJ] [] M2 Q))) :=
  Tq_blk (is := bk_311_0) (dd := de_311) rfl rfl
/-- EarthOfficeModel inverse block at 19 -/
theorem t311_1 {M : Mem} {Q : AR → Mem → Prop} : Tq 311 1 [vJ, vJ, vJ, vJ, vJ] [] M Q ↔ (Q (.inl (some (vI (-1)))) M) :=
  Tq_blk (is := bk_311_1) (dd := de_311) rfl rfl
/-- EarthOfficeModel inverse block at 21 -/
theorem t311_2 {x1 x2 x3 : Int} {M : Mem} {Q : AR → Mem → Prop} : Tq 311 2 [vR 22 0, vI x1, vI x2, vI x3, vJ] [] M Q ↔ (Tq 311 3 [vR 22 0, vI x1, vI x2, vI x3, vI 89] [] M Q) :=
  Tq_blk (is := bk_311_2) (dd := de_311) rfl rfl
/-- EarthOfficeModel inverse block at 25 -/
theorem t311_3 {x1 x2 x3 x4 : Int} {M : Mem} {Q : AR → Mem → Prop} : Tq 311 3 [vR 22 0, vI x1, vI x2, vI x3, vI x4] [] M Q ↔ (if x4 < 0 then Tq 311 5 [vJ, vJ, vJ, vJ, vJ] [] M Q else Tq 262 0 [vR 22 0, vI x1, vI x4, vI x3] [] M (kI fun v1 M1 => if x2 < v1 then Tq 311 4 [vR 22 0, vI x1, vI x2, vI x3, vI x4] [] M1 Q else Q (.inl (some (vI x4))) M1)) :=
  Tq_blk (is := bk_311_3) (dd := de_311) rfl rfl
/-- EarthOfficeModel inverse block at 45 -/
theorem t311_4 {x1 x2 x3 x4 : Int} {M : Mem} {Q : AR → Mem → Prop} : Tq 311 4 [vR 22 0, vI x1, vI x2, vI x3, vI x4] [] M Q ↔ (Tq 311 3 [vR 22 0, vI x1, vI x2, vI x3, vI (w32 (x4 + (-1)))] [] M Q) :=
  Tq_blk (is := bk_311_4) (dd := de_311) rfl rfl
/-- EarthOfficeModel inverse block at 51 -/
theorem t311_5 {M : Mem} {Q : AR → Mem → Prop} : Tq 311 5 [vJ, vJ, vJ, vJ, vJ] [] M Q ↔ (Q (.inl (some (vI (-99999999)))) M) :=
  Tq_blk (is := bk_311_5) (dd := de_311) rfl rfl
/-- EarthOfficeModel associate block at 0 -/
theorem t312_0 {x1 x2 : Int} {M : Mem} {Q : AR → Mem → Prop} : Tq 312 0 [vR 22 0, vI x1, vI x2, vJ, vJ, vJ, vJ, vJ, vJ, vJ] [] M Q ↔ (Tq 189 0 [vI x1, vI 0, vI 64] [] M (kI fun v1 M1 => if v1 = 0 then Tq 312 1 [vJ, vJ, vJ, vJ, vJ, vJ, vJ, vJ, vJ, vJ] [] M1 Q else Tq 189 0 [vI x2, vI 1, vI 99] [] M1 (kI fun v2 M2 => if ¬ v2 = 0 then Tq 312 2 [vR 22 0, vI x1, vI x2, vJ, vJ, vJ, vJ, vJ, vJ, vJ] [] M2 Q else Tq 312 1 [vJ, vJ, vJ, vJ, vJ, vJ, vJ, vJ, vJ, vJ] [] M2 Q))) :=
  Tq_blk (is := bk_312_0) (dd := de_312) rfl rfl
/-- EarthOfficeModel associate block at 20 -/
theorem t312_1 {M : Mem} {Q : AR → Mem → Prop} : Tq 312 1 [vJ, vJ, vJ, vJ, vJ, vJ, vJ, vJ, vJ, vJ] [] M Q ↔ (Q (.inl (some (vI (-1)))) M) :=
  Tq_blk (is := bk_312_1) (dd := de_312) rfl rfl
/-- EarthOfficeModel associate block at 22 -/
theorem t312_2 {x1 x2 : Int} {M : Mem} {Q : AR → Mem → Prop} : Tq 312 2 [vR 22 0, vI x1, vI x2, vJ, vJ, vJ, vJ, vJ, vJ, vJ] [] M Q ↔ (Tq 312 3 [vR 22 0, vI x1, vI x2, vI 0, vJ, vJ, vJ, vJ, vJ, vJ] [] M Q) :=
  Tq_blk (is := bk_312_2) (dd := de_312) rfl rfl
/-- EarthOfficeModel associate block at 24 -/
theorem t312_3 {x1 x2 x3 : Int} {M : Mem} {Q : AR → Mem → Prop} : Tq 312 3 [vR 22 0, vI x1, vI x2, vI x3, vJ, vJ, vJ, vJ, vJ, vJ] [] M Q ↔ (Tq 312 4 [vR 22 0, vI x1, vI x2, vI x3, vI 0, vI (-99999999), vI 0, vI 0, vJ, vJ] [] M Q) :=
  Tq_blk (is := bk_312_3) (dd := de_312) rfl rfl
/-- EarthOfficeModel associate block at 37 -/
theorem t312_4_c28 {x1 x2 x3 x4 x5 x6 x7 : Int} {M : Mem} {Q : AR → Mem → Prop} : Bq 312 de_312 (List.drop 28 bk_312_4) [vR 22 0, vI x1, vI x2, vI x3, vI x4, vI x5, vI x6, vI x7, vJ, vJ] [] M Q ↔ (Tq 312 5 [vR 22 0, vI x1, vI x2, vI x3, vI x4, vI x5, vI x6, vI x7, vI 0, vJ] [] M Q) :=
  Iff.rfl
theorem t312_4_c24 {x1 x2 x3 x4 x5 x6 x7 s0 s1 s2 s3 s4 s5 : Int} {M : Mem} {Q : AR → Mem → Prop} : Bq 312 de_312 (List.drop 24 bk_312_4) [vR 22 0, vI x1, vI x2, vI x3, vI x4, vI x5, vI x6, vI x7, vJ, vJ] [vI s0, vI s1, vI s2, vI s3, vI s4, vI s5, vR 22 0] M Q ↔ ((¬ s0 = 0) ∧ Tq 313 0 [vR 22 0, vI s5, vI s4, vI (w32 (s3 + w32 (s2 * (div32 s1 s0)))), vJ, vJ] [] M (kV fun M1 => Tq 312 5 [vR 22 0, vI x1, vI x2, vI x3, vI x4, vI x5, vI x6, vI x7, vI 0, vJ] [] M1 Q)) :=
  (show Bq 312 de_312 (List.drop 24 bk_312_4) [vR 22 0, vI x1, vI x2, vI x3, vI x4, vI x5, vI x6, vI x7, vJ, vJ] [vI s0, vI s1, vI s2, vI s3, vI s4, vI s5, vR 22 0] M Q ↔ ((¬ s0 = 0) ∧ Tq 313 0 [vR 22 0, vI s5, vI s4, vI (w32 (s3 + w32 (s2 * (div32 s1 s0)))), vJ, vJ] [] M (kV fun M1 => Bq 312 de_312 (List.drop 28 bk_312_4) [vR 22 0, vI x1, vI x2, vI x3, vI x4, vI x5, vI x6, vI x7, vJ, vJ] [] M1 Q)) from Iff.rfl).trans (by simp only [t312_4_c28])
theorem t312_4_c18 {x1 x2 x3 x4 x5 x6 x7 s0 s1 s2 s3 : Int} {M : Mem} {Q : AR → Mem → Prop} : Bq 312 de_312 (List.drop 18 bk_312_4) [vR 22 0, vI x1, vI x2, vI x3, vI x4, vI x5, vI x6, vI x7, vJ, vJ] [vI s0, vI s1, vI s2, vI s3, vR 22 0] M Q ↔ ((¬ (256 : Int) = 0) ∧ Tq 313 0 [vR 22 0, vI s3, vI (w32 (s2 + w32 (s1 * s0))), vI (w32 (1 + w32 (4 * (div32 x7 256)))), vJ, vJ] [] M (kV fun M1 => Tq 312 5 [vR 22 0, vI x1, vI x2, vI x3, vI x4, vI x5, vI x6, vI x7, vI 0, vJ] [] M1 Q)) :=
  (show Bq 312 de_312 (List.drop 18 bk_312_4) [vR 22 0, vI x1, vI x2, vI x3, vI x4, vI x5, vI x6, vI x7, vJ, vJ] [vI s0, vI s1, vI s2, vI s3, vR 22 0] M Q ↔ (Bq 312 de_312 (List.drop 24 bk_312_4) [vR 22 0, vI x1, vI x2, vI x3, vI x4, vI x5, vI x6, vI x7, vJ, vJ] [vI 256, vI x7, vI 4, vI 1, vI (w32 (s2 + w32 (s1 * s0))), vI s3, vR 22 0] M Q) from Iff.rfl).trans (by simp only [t312_4_c24])
theorem t312_4_c12 {x1 x2 x3 x4 x5 x6 x7 s0 s1 : Int} {M : Mem} {Q : AR → Mem → Prop} : Bq 312 de_312 (List.drop 12 bk_312_4) [vR 22 0, vI x1, vI x2, vI x3, vI x4, vI x5, vI x6, vI x7, vJ, vJ] [vI s0, vI s1, vR 22 0] M Q ↔ ((¬ (16 : Int) = 0) ∧ (¬ (16 : Int) = 0) ∧ (¬ (256 : Int) = 0) ∧ Tq 313 0 [vR 22 0, vI s1, vI (w32 (s0 + w32 (4 * (rem32 (div32 x7 16) 16)))), vI (w32 (1 + w32 (4 * (div32 x7 256)))), vJ, vJ] [] M (kV fun M1 => Tq 312 5 [vR 22 0, vI x1, vI x2, vI x3, vI x4, vI x5, vI x6, vI x7, vI 0, vJ] [] M1 Q)) :=
  (show Bq 312 de_312 (List.drop 12 bk_312_4) [vR 22 0, vI x1, vI x2, vI x3, vI x4, vI x5, vI x6, vI x7, vJ, vJ] [vI s0, vI s1, vR 22 0] M Q ↔ ((¬ (16 : Int) = 0) ∧ (¬ (16 : Int) = 0) ∧ Bq 312 de_312 (List.drop 18 bk_312_4) [vR 22 0, vI x1, vI x2, vI x3, vI x4, vI x5, vI x6, vI x7, vJ, vJ] [vI (rem32 (div32 x7 16) 16), vI 4, vI s0, vI s1, vR 22 0] M Q) from Iff.rfl).trans (by simp only [t312_4_c18])
theorem t312_4_c6 {x1 x2 x3 x4 x5 x6 x7 s0 s1 : Int} {M : Mem} {Q : AR → Mem → Prop} : Bq 312 de_312 (List.drop 6 bk_312_4) [vR 22 0, vI x1, vI x2, vI x3, vI x4, vI x5, vI x6, vI x7, vJ, vJ] [vI s0, vI s1, vR 22 0] M Q ↔ ((¬ (16 : Int) = 0) ∧ (¬ (16 : Int) = 0) ∧ (¬ (16 : Int) = 0) ∧ (¬ (256 : Int) = 0) ∧ Tq 313 0 [vR 22 0, vI (w32 (s1 + w32 (s0 * (rem32 x7 16)))), vI (w32 (2 + w32 (4 * (rem32 (div32 x7 16) 16)))), vI (w32 (1 + w32 (4 * (div32 x7 256)))), vJ, vJ] [] M (kV fun M1 => Tq 312 5 [vR 22 0, vI x1, vI x2, vI x3, vI x4, vI x5, vI x6, vI x7, vI 0, vJ] [] M1 Q)) :=
  (show Bq 312 de_312 (List.drop 6 bk_312_4) [vR 22 0, vI x1, vI x2, vI x3, vI x4, vI x5, vI x6, vI x7, vJ, vJ] [vI s0, vI s1, vR 22 0] M Q ↔ ((¬ (16 : Int) = 0) ∧ Bq 312 de_312 (List.drop 12 bk_312_4) [vR 22 0, vI x1, vI x2, vI x3, vI x4, vI x5, vI x6, vI x7, vJ, vJ] [vI 2, vI (w32 (s1 + w32 (s0 * (rem32 x7 16)))), vR 22 0] M Q) from Iff.rfl).trans (by simp only [t312_4_c12])
theorem t312_4 {x1 x2 x3 x4 x5 x6 x7 : Int} {M : Mem} {Q : AR → Mem → Prop} : Tq 312 4 [vR 22 0, vI x1, vI x2, vI x3, vI x4, vI x5, vI x6, vI x7, vJ, vJ] [] M Q ↔ (if (1024 : Int) ≤ x7 then Tq 312 10 [vR 22 0, vI x1, vI x2, vI x3, vI x4, vI x5, vI x6, vJ, vJ, vJ] [] M Q else (¬ (16 : Int) = 0) ∧ (¬ (16 : Int) = 0) ∧ (¬ (16 : Int) = 0) ∧ (¬ (256 : Int) = 0) ∧ Tq 313 0 [vR 22 0, vI (w32 (2 + w32 (4 * (rem32 x7 16)))), vI (w32 (2 + w32 (4 * (rem32 (div32 x7 16) 16)))), vI (w32 (1 + w32 (4 * (div32 x7 256)))), vJ, vJ] [] M (kV fun M1 => Tq 312 5 [vR 22 0, vI x1, vI x2, vI x3, vI x4, vI x5, vI x6, vI x7, vI 0, vJ] [] M1 Q)) :=
  (show Tq 312 4 [vR 22 0, vI x1, vI x2, vI x3, vI x4, vI x5, vI x6, vI x7, vJ, vJ] [] M Q ↔ (if (1024 : Int) ≤ x7 then Tq 312 10 [vR 22 0, vI x1, vI x2, vI x3, vI x4, vI x5, vI x6, vJ, vJ, vJ] [] M Q else Bq 312 de_312 (List.drop 6 bk_312_4) [vR 22 0, vI x1, vI x2, vI x3, vI x4, vI x5, vI x6, vI x7, vJ, vJ] [vI 4, vI 2, vR 22 0] M Q) from Tq_blk (is := bk_312_4) (dd := de_312) rfl rfl).trans (by simp only [t312_4_c6])
/-- EarthOfficeModel associate block at 83 -/
theorem t312_5_c12 {x1 x2 x3 x4 x5 x6 x7 x8 s0 : Int} {M : Mem} {Q : AR → Mem → Prop} : Bq 312 de_312 (List.drop 12 bk_312_5) [vR 22 0, vI x1, vI x2, vI x3, vI x4, vI x5, vI x6, vI x7, vI x8, vJ] [vI s0] M Q ↔ (if s0 = (-99999999) then Tq 312 6 [vR 22 0, vI x1, vI x2, vI x3, vI x4, vI x5, vI x6, vI x7, vI x8, vJ] [] M Q else Tq 312 8 [vR 22 0, vI x1, vI x2, vI x3, vI x4, vI x5, vI x6, vI x7, vI x8, vJ] [] M Q) :=
  Iff.rfl
theorem t312_5_c6 {x1 x2 x3 x4 x5 x6 x7 x8 : Int} {M : Mem} {Q : AR → Mem → Prop} : Bq 312 de_312 (List.drop 6 bk_312_5) [vR 22 0, vI x1, vI x2, vI x3, vI x4, vI x5, vI x6, vI x7, vI x8, vJ] [vR 22024 0] M Q ↔ (((0 : Int) ≤ w32 (w32 (6 * x8) + 5) ∧ w32 (w32 (6 * x8) + 5) < 384) ∧ if M 22024 0 (w32 (w32 (6 * x8) + 5)) = (-99999999) then Tq 312 6 [vR 22 0, vI x1, vI x2, vI x3, vI x4, vI x5, vI x6, vI x7, vI x8, vJ] [] M Q else Tq 312 8 [vR 22 0, vI x1, vI x2, vI x3, vI x4, vI x5, vI x6, vI x7, vI x8, vJ] [] M Q) :=
  (show Bq 312 de_312 (List.drop 6 bk_312_5) [vR 22 0, vI x1, vI x2, vI x3, vI x4, vI x5, vI x6, vI x7, vI x8, vJ] [vR 22024 0] M Q ↔ (((0 : Int) ≤ w32 (w32 (6 * x8) + 5) ∧ w32 (w32 (6 * x8) + 5) < 384) ∧ Bq 312 de_312 (List.drop 12 bk_312_5) [vR 22 0, vI x1, vI x2, vI x3, vI x4, vI x5, vI x6, vI x7, vI x8, vJ] [vI (M 22024 0 (w32 (w32 (6 * x8) + 5)))] M Q) from Iff.rfl).trans (by simp only [t312_5_c12])
theorem t312_5 {x1 x2 x3 x4 x5 x6 x7 x8 : Int} {M : Mem} {Q : AR → Mem → Prop} : Tq 312 5 [vR 22 0, vI x1, vI x2, vI x3, vI x4, vI x5, vI x6, vI x7, vI x8, vJ] [] M Q ↔ (if M 22 0 23 ≤ x8 then Tq 312 9 [vR 22 0, vI x1, vI x2, vI x3, vI x4, vI x5, vI x6, vI x7, vJ, vJ] [] M Q else ((0 : Int) ≤ w32 (w32 (6 * x8) + 5) ∧ w32 (w32 (6 * x8) + 5) < 384) ∧ if M 22024 0 (w32 (w32 (6 * x8) + 5)) = (-99999999) then Tq 312 6 [vR 22 0, vI x1, vI x2, vI x3, vI x4, vI x5, vI x6, vI x7, vI x8, vJ] [] M Q else Tq 312 8 [vR 22 0, vI x1, vI x2, vI x3, vI x4, vI x5, vI x6, vI x7, vI x8, vJ] [] M Q) :=
  (show Tq 312 5 [vR 22 0, vI x1, vI x2, vI x3, vI x4, vI x5, vI x6, vI x7, vI x8, vJ] [] M Q ↔ (if M 22 0 23 ≤ x8 then Tq 312 9 [vR 22 0, vI x1, vI x2, vI x3, vI x4, vI x5, vI x6, vI x7, vJ, vJ] [] M Q else Bq 312 de_312 (List.drop 6 bk_312_5) [vR 22 0, vI x1, vI x2, vI x3, vI x4, vI x5, vI x6, vI x7, vI x8, vJ] [vR 22024 0] M Q) from Tq_blk (is := bk_312_5) (dd := de_312) rfl rfl).trans (by simp only [t312_5_c6])
/-- EarthOfficeModel associate block at 112 -/
theorem t312_6_c18 {x1 x2 x3 x4 x5 x6 x7 x8 x9 : Int} {M : Mem} {Q : AR → Mem → Prop} : Bq 312 de_312 (List.drop 18 bk_312_6) [vR 22 0, vI x1, vI x2, vI x3, vI x4, vI x5, vI x6, vI x7, vI x8, vI x9] [vR 22 0] M Q ↔ (((0 : Int) ≤ x8 ∧ x8 < 64) ∧ if x6 ≤ M 22036 0 x8 then Tq 312 8 [vR 22 0, vI x1, vI x2, vI x3, vI x4, vI x5, vI x6, vI x7, vI x8, vJ] [] M Q else Tq 312 7 [vR 22 0, vI x1, vI x2, vI x3, vJ, vJ, vJ, vI x7, vI x8, vI x9] [] M Q) :=
  Iff.rfl
theorem t312_6_c12 {x1 x2 x3 x4 x5 x6 x7 x8 x9 s0 : Int} {M : Mem} {Q : AR → Mem → Prop} : Bq 312 de_312 (List.drop 12 bk_312_6) [vR 22 0, vI x1, vI x2, vI x3, vI x4, vI x5, vI x6, vI x7, vI x8, vI x9] [vI s0] M Q ↔ (if ¬ s0 = x4 then Tq 312 8 [vR 22 0, vI x1, vI x2, vI x3, vI x4, vI x5, vI x6, vI x7, vI x8, vJ] [] M Q else if ¬ x5 = x7 then Tq 312 8 [vR 22 0, vI x1, vI x2, vI x3, vI x4, vI x5, vI x6, vI x7, vI x8, vJ] [] M Q else ((0 : Int) ≤ x8 ∧ x8 < 64) ∧ if x6 ≤ M 22036 0 x8 then Tq 312 8 [vR 22 0, vI x1, vI x2, vI x3, vI x4, vI x5, vI x6, vI x7, vI x8, vJ] [] M Q else Tq 312 7 [vR 22 0, vI x1, vI x2, vI x3, vJ, vJ, vJ, vI x7, vI x8, vI x9] [] M Q) :=
  (show Bq 312 de_312 (List.drop 12 bk_312_6) [vR 22 0, vI x1, vI x2, vI x3, vI x4, vI x5, vI x6, vI x7, vI x8, vI x9] [vI s0] M Q ↔ (if ¬ s0 = x4 then Tq 312 8 [vR 22 0, vI x1, vI x2, vI x3, vI x4, vI x5, vI x6, vI x7, vI x8, vJ] [] M Q else if ¬ x5 = x7 then Tq 312 8 [vR 22 0, vI x1, vI x2, vI x3, vI x4, vI x5, vI x6, vI x7, vI x8, vJ] [] M Q else Bq 312 de_312 (List.drop 18 bk_312_6) [vR 22 0, vI x1, vI x2, vI x3, vI x4, vI x5, vI x6, vI x7, vI x8, vI x9] [vR 22 0] M Q) from Iff.rfl).trans (by simp only [t312_6_c18])
theorem t312_6_c6 {x1 x2 x3 x4 x5 x6 x7 x8 s0 s1 : Int} {M : Mem} {Q : AR → Mem → Prop} : Bq 312 de_312 (List.drop 6 bk_312_6) [vR 22 0, vI x1, vI x2, vI x3, vI x4, vI x5, vI x6, vI x7, vI x8, vJ] [vI s0, vI s1, vR 22 0] M Q ↔ (Tq 314 0 [vR 22 0, vI s1, vI s0, vJ, vJ, vJ, vJ] [] M (kI fun v1 M1 => if x4 < v1 then Tq 312 7 [vR 22 0, vI x1, vI x2, vI x3, vJ, vJ, vJ, vI x7, vI x8, vI v1] [] M1 Q else if ¬ v1 = x4 then Tq 312 8 [vR 22 0, vI x1, vI x2, vI x3, vI x4, vI x5, vI x6, vI x7, vI x8, vJ] [] M1 Q else if ¬ x5 = x7 then Tq 312 8 [vR 22 0, vI x1, vI x2, vI x3, vI x4, vI x5, vI x6, vI x7, vI x8, vJ] [] M1 Q else ((0 : Int) ≤ x8 ∧ x8 < 64) ∧ if x6 ≤ M1 22036 0 x8 then Tq 312 8 [vR 22 0, vI x1, vI x2, vI x3, vI x4, vI x5, vI x6, vI x7, vI x8, vJ] [] M1 Q else Tq 312 7 [vR 22 0, vI x1, vI x2, vI x3, vJ, vJ, vJ, vI x7, vI x8, vI v1] [] M1 Q)) :=
  (show Bq 312 de_312 (List.drop 6 bk_312_6) [vR 22 0, vI x1, vI x2, vI x3, vI x4, vI x5, vI x6, vI x7, vI x8, vJ] [vI s0, vI s1, vR 22 0] M Q ↔ (Tq 314 0 [vR 22 0, vI s1, vI s0, vJ, vJ, vJ, vJ] [] M (kI fun v1 M1 => if x4 < v1 then Tq 312 7 [vR 22 0, vI x1, vI x2, vI x3, vJ, vJ, vJ, vI x7, vI x8, vI v1] [] M1 Q else Bq 312 de_312 (List.drop 12 bk_312_6) [vR 22 0, vI x1, vI x2, vI x3, vI x4, vI x5, vI x6, vI x7, vI x8, vI v1] [vI v1] M1 Q)) from Iff.rfl).trans (by simp only [t312_6_c12])
theorem t312_6 {x1 x2 x3 x4 x5 x6 x7 x8 : Int} {M : Mem} {Q : AR → Mem → Prop} : Tq 312 6 [vR 22 0, vI x1, vI x2, vI x3, vI x4, vI x5, vI x6, vI x7, vI x8, vJ] [] M Q ↔ (((0 : Int) ≤ x8 ∧ x8 < 64) ∧ Tq 314 0 [vR 22 0, vI (M 22036 0 x8), vI x1, vJ, vJ, vJ, vJ] [] M (kI fun v1 M1 => if x4 < v1 then Tq 312 7 [vR 22 0, vI x1, vI x2, vI x3, vJ, vJ, vJ, vI x7, vI x8, vI v1] [] M1 Q else if ¬ v1 = x4 then Tq 312 8 [vR 22 0, vI x1, vI x2, vI x3, vI x4, vI x5, vI x6, vI x7, vI x8, vJ] [] M1 Q else if ¬ x5 = x7 then Tq 312 8 [vR 22 0, vI x1, vI x2, vI x3, vI x4, vI x5, vI x6, vI x7, vI x8, vJ] [] M1 Q else ((0 : Int) ≤ x8 ∧ x8 < 64) ∧ if x6 ≤ M1 22036 0 x8 then Tq 312 8 [vR 22 0, vI x1, vI x2, vI x3, vI x4, vI x5, vI x6, vI x7, vI x8, vJ] [] M1 Q else Tq 312 7 [vR 22 0, vI x1, vI x2, vI x3, vJ, vJ, vJ, vI x7, vI x8, vI v1] [] M1 Q)) :=
  (show Tq 312 6 [vR 22 0, vI x1, vI x2, vI x3, vI x4, vI x5, vI x6, vI x7, vI x8, vJ] [] M Q ↔ (((0 : Int) ≤ x8 ∧ x8 < 64) ∧ Bq 312 de_312 (List.drop 6 bk_312_6) [vR 22 0, vI x1, vI x2, vI x3, vI x4, vI x5, vI x6, vI x7, vI x8, vJ] [vI x1, vI (M 22036 0 x8), vR 22 0] M Q) from Tq_blk (is := bk_312_6) (dd := de_312) rfl rfl).trans (by simp only [t312_6_c6])
/-- EarthOfficeModel associate block at 159 -/
theorem t312_7 {x1 x2 x3 x7 x8 x9 : Int} {M : Mem} {Q : AR → Mem → Prop} : Tq 312 7 [vR 22 0, vI x1, vI x2, vI x3, vJ, vJ, vJ, vI x7, vI x8, vI x9] [] M Q ↔ (((0 : Int) ≤ x8 ∧ x8 < 64) ∧ Tq 312 8 [vR 22 0, vI x1, vI x2, vI x3, vI x9, vI x7, vI (M 22036 0 x8), vI x7, vI x8, vJ] [] M Q) :=
  Tq_blk (is := bk_312_7) (dd := de_312) rfl rfl
/-- EarthOfficeModel associate block at 176 -/
theorem t312_8 {x1 x2 x3 x4 x5 x6 x7 x8 : Int} {M : Mem} {Q : AR → Mem → Prop} : Tq 312 8 [vR 22 0, vI x1, vI x2, vI x3, vI x4, vI x5, vI x6, vI x7, vI x8, vJ] [] M Q ↔ (Tq 312 5 [vR 22 0, vI x1, vI x2, vI x3, vI x4, vI x5, vI x6, vI x7, vI (w32 (x8 + 1)), vJ] [] M Q) :=
  Tq_blk (is := bk_312_8) (dd := de_312) rfl rfl
/-- EarthOfficeModel associate block at 182 -/
theorem t312_9 {x1 x2 x3 x4 x5 x6 x7 : Int} {M : Mem} {Q : AR → Mem → Prop} : Tq 312 9 [vR 22 0, vI x1, vI x2, vI x3, vI x4, vI x5, vI x6, vI x7, vJ, vJ] [] M Q ↔ (Tq 312 4 [vR 22 0, vI x1, vI x2, vI x3, vI x4, vI x5, vI x6, vI (w32 (x7 + 1)), vJ, vJ] [] M Q) :=
  Tq_blk (is := bk_312_9) (dd := de_312) rfl rfl
/-- EarthOfficeModel associate block at 188 -/
theorem t312_10 {x1 x2 x3 x4 x5 x6 : Int} {M : Mem} {Q : AR → Mem → Prop} : Tq 312 10 [vR 22 0, vI x1, vI x2, vI x3, vI x4, vI x5, vI x6, vJ, vJ, vJ] [] M Q ↔ (if x5 = (-99999999) then Tq 312 11 [vJ, vJ, vJ, vI x3, vJ, vJ, vJ, vJ, vJ, vJ] [] M Q else if x2 ≤ x4 then Tq 312 12 [vR 22 0, vI x1, vI x2, vI x3, vJ, vI x5, vI x6, vJ, vJ, vJ] [] M Q else Tq 312 11 [vJ, vJ, vJ, vI x3, vJ, vJ, vJ, vJ, vJ, vJ] [] M Q) :=
  Tq_blk (is := bk_312_10) (dd := de_312) rfl rfl
/-- EarthOfficeModel associate block at 201 -/
theorem t312_11 {x3 : Int} {M : Mem} {Q : AR → Mem → Prop} : Tq 312 11 [vJ, vJ, vJ, vI x3, vJ, vJ, vJ, vJ, vJ, vJ] [] M Q ↔ (Q (.inl (some (vI x3))) M) :=
  Tq_blk (is := bk_312_11) (dd := de_312) rfl rfl
/-- EarthOfficeModel associate block at 203 -/
theorem t312_12_c35 {x1 x2 x3 x5 x6 x7 x8 x9 s0 : Int} {M : Mem} {Q : AR → Mem → Prop} : Bq 312 de_312 (List.drop 35 bk_312_12) [vR 22 0, vI x1, vI x2, vI x3, vJ, vI x5, vI x6, vI x7, vI x8, vI x9] [vI s0] M Q ↔ (if (3 : Int) ≤ M 22 0 38 then Tq 312 13 [vR 22 0, vI x1, vI x2, vI x3, vJ, vJ, vI x6, vI x7, vI x8, vI x9] [] M Q else Q (.inl (some (vI x3))) M) :=
  Iff.rfl
theorem t312_12_c30 {x1 x2 x3 x5 x6 x7 x8 x9 s0 s1 s2 : Int} {M : Mem} {Q : AR → Mem → Prop} : Bq 312 de_312 (List.drop 30 bk_312_12) [vR 22 0, vI x1, vI x2, vI x3, vJ, vI x5, vI x6, vI x7, vI x8, vI x9] [vI s0, vI s1, vI s2, vR 22 0] M Q ↔ (Tq 313 0 [vR 22 0, vI s2, vI s1, vI s0, vJ, vJ] [] M (kV fun M1 => Tq 314 0 [vR 22 0, vI x6, vI x1, vJ, vJ, vJ, vJ] [] M1 (kI fun v1 M2 => if (3 : Int) ≤ M2 22 0 38 then Tq 312 13 [vR 22 0, vI x1, vI x2, vI x3, vJ, vJ, vI x6, vI x7, vI x8, vI x9] [] M2 Q else Q (.inl (some (vI x3))) M2))) :=
  (show Bq 312 de_312 (List.drop 30 bk_312_12) [vR 22 0, vI x1, vI x2, vI x3, vJ, vI x5, vI x6, vI x7, vI x8, vI x9] [vI s0, vI s1, vI s2, vR 22 0] M Q ↔ (Tq 313 0 [vR 22 0, vI s2, vI s1, vI s0, vJ, vJ] [] M (kV fun M1 => Tq 314 0 [vR 22 0, vI x6, vI x1, vJ, vJ, vJ, vJ] [] M1 (kI fun v1 M2 => Bq 312 de_312 (List.drop 35 bk_312_12) [vR 22 0, vI x1, vI x2, vI x3, vJ, vI x5, vI x6, vI x7, vI x8, vI x9] [vI v1] M2 Q))) from Iff.rfl).trans (by simp only [t312_12_c35])
theorem t312_12_c24 {x1 x2 x3 x5 x6 x7 x8 s0 s1 : Int} {M : Mem} {Q : AR → Mem → Prop} : Bq 312 de_312 (List.drop 24 bk_312_12) [vR 22 0, vI x1, vI x2, vI x3, vJ, vI x5, vI x6, vI x7, vI x8, vJ] [vI s0, vI s1] M Q ↔ (Tq 313 0 [vR 22 0, vI x7, vI x8, vI (w32 (s1 + s0)), vJ, vJ] [] M (kV fun M1 => Tq 314 0 [vR 22 0, vI x6, vI x1, vJ, vJ, vJ, vJ] [] M1 (kI fun v1 M2 => if (3 : Int) ≤ M2 22 0 38 then Tq 312 13 [vR 22 0, vI x1, vI x2, vI x3, vJ, vJ, vI x6, vI x7, vI x8, vI (w32 (s1 + s0))] [] M2 Q else Q (.inl (some (vI x3))) M2))) :=
  (show Bq 312 de_312 (List.drop 24 bk_312_12) [vR 22 0, vI x1, vI x2, vI x3, vJ, vI x5, vI x6, vI x7, vI x8, vJ] [vI s0, vI s1] M Q ↔ (Bq 312 de_312 (List.drop 30 bk_312_12) [vR 22 0, vI x1, vI x2, vI x3, vJ, vI x5, vI x6, vI x7, vI x8, vI (w32 (s1 + s0))] [vI (w32 (s1 + s0)), vI x8, vI x7, vR 22 0] M Q) from Iff.rfl).trans (by simp only [t312_12_c30])
theorem t312_12_c18 {x1 x2 x3 x5 x6 x7 x8 : Int} {M : Mem} {Q : AR → Mem → Prop} : Bq 312 de_312 (List.drop 18 bk_312_12) [vR 22 0, vI x1, vI x2, vI x3, vJ, vI x5, vI x6, vI x7, vI x8, vJ] [] M Q ↔ ((¬ (256 : Int) = 0) ∧ Tq 313 0 [vR 22 0, vI x7, vI x8, vI (w32 (1 + w32 (4 * (div32 x5 256)))), vJ, vJ] [] M (kV fun M1 => Tq 314 0 [vR 22 0, vI x6, vI x1, vJ, vJ, vJ, vJ] [] M1 (kI fun v1 M2 => if (3 : Int) ≤ M2 22 0 38 then Tq 312 13 [vR 22 0, vI x1, vI x2, vI x3, vJ, vJ, vI x6, vI x7, vI x8, vI (w32 (1 + w32 (4 * (div32 x5 256))))] [] M2 Q else Q (.inl (some (vI x3))) M2))) :=
  (show Bq 312 de_312 (List.drop 18 bk_312_12) [vR 22 0, vI x1, vI x2, vI x3, vJ, vI x5, vI x6, vI x7, vI x8, vJ] [] M Q ↔ ((¬ (256 : Int) = 0) ∧ Bq 312 de_312 (List.drop 24 bk_312_12) [vR 22 0, vI x1, vI x2, vI x3, vJ, vI x5, vI x6, vI x7, vI x8, vJ] [vI (w32 (4 * (div32 x5 256))), vI 1] M Q) from Iff.rfl).trans (by simp only [t312_12_c24])
theorem t312_12_c12 {x1 x2 x3 x5 x6 x7 s0 s1 s2 s3 : Int} {M : Mem} {Q : AR → Mem → Prop} : Bq 312 de_312 (List.drop 12 bk_312_12) [vR 22 0, vI x1, vI x2, vI x3, vJ, vI x5, vI x6, vI x7, vJ, vJ] [vI s0, vI s1, vI s2, vI s3] M Q ↔ ((¬ s0 = 0) ∧ (¬ (16 : Int) = 0) ∧ (¬ (256 : Int) = 0) ∧ Tq 313 0 [vR 22 0, vI x7, vI (w32 (s3 + w32 (s2 * (rem32 (div32 s1 s0) 16)))), vI (w32 (1 + w32 (4 * (div32 x5 256)))), vJ, vJ] [] M (kV fun M1 => Tq 314 0 [vR 22 0, vI x6, vI x1, vJ, vJ, vJ, vJ] [] M1 (kI fun v1 M2 => if (3 : Int) ≤ M2 22 0 38 then Tq 312 13 [vR 22 0, vI x1, vI x2, vI x3, vJ, vJ, vI x6, vI x7, vI (w32 (s3 + w32 (s2 * (rem32 (div32 s1 s0) 16)))), vI (w32 (1 + w32 (4 * (div32 x5 256))))] [] M2 Q else Q (.inl (some (vI x3))) M2))) :=
  (show Bq 312 de_312 (List.drop 12 bk_312_12) [vR 22 0, vI x1, vI x2, vI x3, vJ, vI x5, vI x6, vI x7, vJ, vJ] [vI s0, vI s1, vI s2, vI s3] M Q ↔ ((¬ s0 = 0) ∧ (¬ (16 : Int) = 0) ∧ Bq 312 de_312 (List.drop 18 bk_312_12) [vR 22 0, vI x1, vI x2, vI x3, vJ, vI x5, vI x6, vI x7, vI (w32 (s3 + w32 (s2 * (rem32 (div32 s1 s0) 16)))), vJ] [] M Q) from Iff.rfl).trans (by simp only [t312_12_c18])
theorem t312_12_c6 {x1 x2 x3 x5 x6 s0 s1 : Int} {M : Mem} {Q : AR → Mem → Prop} : Bq 312 de_312 (List.drop 6 bk_312_12) [vR 22 0, vI x1, vI x2, vI x3, vJ, vI x5, vI x6, vJ, vJ, vJ] [vI s0, vI s1] M Q ↔ ((¬ (16 : Int) = 0) ∧ (¬ (16 : Int) = 0) ∧ (¬ (256 : Int) = 0) ∧ Tq 313 0 [vR 22 0, vI (w32 (s1 + s0)), vI (w32 (2 + w32 (4 * (rem32 (div32 x5 16) 16)))), vI (w32 (1 + w32 (4 * (div32 x5 256)))), vJ, vJ] [] M (kV fun M1 => Tq 314 0 [vR 22 0, vI x6, vI x1, vJ, vJ, vJ, vJ] [] M1 (kI fun v1 M2 => if (3 : Int) ≤ M2 22 0 38 then Tq 312 13 [vR 22 0, vI x1, vI x2, vI x3, vJ, vJ, vI x6, vI (w32 (s1 + s0)), vI (w32 (2 + w32 (4 * (rem32 (div32 x5 16) 16)))), vI (w32 (1 + w32 (4 * (div32 x5 256))))] [] M2 Q else Q (.inl (some (vI x3))) M2))) :=
  (show Bq 312 de_312 (List.drop 6 bk_312_12) [vR 22 0, vI x1, vI x2, vI x3, vJ, vI x5, vI x6, vJ, vJ, vJ] [vI s0, vI s1] M Q ↔ (Bq 312 de_312 (List.drop 12 bk_312_12) [vR 22 0, vI x1, vI x2, vI x3, vJ, vI x5, vI x6, vI (w32 (s1 + s0)), vJ, vJ] [vI 16, vI x5, vI 4, vI 2] M Q) from Iff.rfl).trans (by simp only [t312_12_c12])
theorem t312_12 {x1 x2 x3 x5 x6 : Int} {M : Mem} {Q : AR → Mem → Prop} : Tq 312 12 [vR 22 0, vI x1, vI x2, vI x3, vJ, vI x5, vI x6, vJ, vJ, vJ] [] M Q ↔ ((¬ (16 : Int) = 0) ∧ (¬ (16 : Int) = 0) ∧ (¬ (16 : Int) = 0) ∧ (¬ (256 : Int) = 0) ∧ Tq 313 0 [vR 22 0, vI (w32 (2 + w32 (4 * (rem32 x5 16)))), vI (w32 (2 + w32 (4 * (rem32 (div32 x5 16) 16)))), vI (w32 (1 + w32 (4 * (div32 x5 256)))), vJ, vJ] [] M (kV fun M1 => Tq 314 0 [vR 22 0, vI x6, vI x1, vJ, vJ, vJ, vJ] [] M1 (kI fun v1 M2 => if (3 : Int) ≤ M2 22 0 38 then Tq 312 13 [vR 22 0, vI x1, vI x2, vI x3, vJ, vJ, vI x6, vI (w32 (2 + w32 (4 * (rem32 x5 16)))), vI (w32 (2 + w32 (4 * (rem32 (div32 x5 16) 16)))), vI (w32 (1 + w32 (4 * (div32 x5 256))))] [] M2 Q else Q (.inl (some (vI x3))) M2))) :=
  (show Tq 312 12 [vR 22 0, vI x1, vI x2, vI x3, vJ, vI x5, vI x6, vJ, vJ, vJ] [] M Q ↔ ((¬ (16 : Int) = 0) ∧ Bq 312 de_312 (List.drop 6 bk_312_12) [vR 22 0, vI x1, vI x2, vI x3, vJ, vI x5, vI x6, vJ, vJ, vJ] [vI (w32 (4 * (rem32 x5 16))), vI 2] M Q) from Tq_blk (is := bk_312_12) (dd := de_312) rfl rfl).trans (by simp only [t312_12_c6])
/-- EarthOfficeModel associate block at 269 -/
theorem t312_13_c12 {x1 x2 x3 x6 x7 x8 x9 s0 : Int} {M : Mem} {Q : AR → Mem → Prop} : Bq 312 de_312 (List.drop 12 bk_312_13) [vR 22 0, vI x1, vI x2, vI x3, vJ, vJ, vI x6, vI x7, vI x8, vI x9] [vI s0] M Q ↔ (if ¬ s0 = 0 then Tq 312 17 [vR 22 0, vI x1, vI x2, vI x3, vJ, vJ, vI x6, vI x7, vI x8, vI x9] [] M Q else Tq 312 14 [vJ, vJ, vJ, vI x3, vJ, vJ, vJ, vJ, vJ, vJ] [] M Q) :=
  Iff.rfl
theorem t312_13_c6 {x1 x2 x3 x6 x7 x8 x9 s0 : Int} {M : Mem} {Q : AR → Mem → Prop} : Bq 312 de_312 (List.drop 6 bk_312_13) [vR 22 0, vI x1, vI x2, vI x3, vJ, vJ, vI x6, vI x7, vI x8, vI x9] [vI s0, vR 22 0] M Q ↔ (Tq 198 0 [vR 22 0, vI (w32 (s0 + w32 (20 * (M 22 0 38))))] [] M (kI fun v1 M1 => if ¬ v1 = 0 then Tq 312 17 [vR 22 0, vI x1, vI x2, vI x3, vJ, vJ, vI x6, vI x7, vI x8, vI x9] [] M1 Q else Tq 312 14 [vJ, vJ, vJ, vI x3, vJ, vJ, vJ, vJ, vJ, vJ] [] M1 Q)) :=
  (show Bq 312 de_312 (List.drop 6 bk_312_13) [vR 22 0, vI x1, vI x2, vI x3, vJ, vJ, vI x6, vI x7, vI x8, vI x9] [vI s0, vR 22 0] M Q ↔ (Tq 198 0 [vR 22 0, vI (w32 (s0 + w32 (20 * (M 22 0 38))))] [] M (kI fun v1 M1 => Bq 312 de_312 (List.drop 12 bk_312_13) [vR 22 0, vI x1, vI x2, vI x3, vJ, vJ, vI x6, vI x7, vI x8, vI x9] [vI v1] M1 Q)) from Iff.rfl).trans (by simp only [t312_13_c12])
theorem t312_13 {x1 x2 x3 x6 x7 x8 x9 : Int} {M : Mem} {Q : AR → Mem → Prop} : Tq 312 13 [vR 22 0, vI x1, vI x2, vI x3, vJ, vJ, vI x6, vI x7, vI x8, vI x9] [] M Q ↔ (if M 22 0 28 = (24 : Int) then Tq 312 14 [vJ, vJ, vJ, vI x3, vJ, vJ, vJ, vJ, vJ, vJ] [] M Q else Tq 198 0 [vR 22 0, vI (w32 (25 + w32 (20 * (M 22 0 38))))] [] M (kI fun v1 M1 => if ¬ v1 = 0 then Tq 312 17 [vR 22 0, vI x1, vI x2, vI x3, vJ, vJ, vI x6, vI x7, vI x8, vI x9] [] M1 Q else Tq 312 14 [vJ, vJ, vJ, vI x3, vJ, vJ, vJ, vJ, vJ, vJ] [] M1 Q)) :=
  (show Tq 312 13 [vR 22 0, vI x1, vI x2, vI x3, vJ, vJ, vI x6, vI x7, vI x8, vI x9] [] M Q ↔ (if M 22 0 28 = (24 : Int) then Tq 312 14 [vJ, vJ, vJ, vI x3, vJ, vJ, vJ, vJ, vJ, vJ] [] M Q else Bq 312 de_312 (List.drop 6 bk_312_13) [vR 22 0, vI x1, vI x2, vI x3, vJ, vJ, vI x6, vI x7, vI x8, vI x9] [vI 25, vR 22 0] M Q) from Tq_blk (is := bk_312_13) (dd := de_312) rfl rfl).trans (by simp only [t312_13_c6])
/-- EarthOfficeModel associate block at 295 -/
theorem t312_14 {x3 : Int} {M : Mem} {Q : AR → Mem → Prop} : Tq 312 14 [vJ, vJ, vJ, vI x3, vJ, vJ, vJ, vJ, vJ, vJ] [] M Q ↔ (if ¬ x3 = 0 then Tq 312 15 [vJ, vJ, vJ, vI x3, vJ, vJ, vJ, vJ, vJ, vJ] [] M Q else Tq 312 16 [vJ, vJ, vJ, vJ, vJ, vJ, vJ, vJ, vJ, vJ] [vI (-3)] M Q) :=
  Tq_blk (is := bk_312_14) (dd := de_312) rfl rfl
/-- EarthOfficeModel associate block at 304 -/
theorem t312_15 {x3 : Int} {M : Mem} {Q : AR → Mem → Prop} : Tq 312 15 [vJ, vJ, vJ, vI x3, vJ, vJ, vJ, vJ, vJ, vJ] [] M Q ↔ (Tq 312 16 [vJ, vJ, vJ, vJ, vJ, vJ, vJ, vJ, vJ, vJ] [vI x3] M Q) :=
  Tq_blk (is := bk_312_15) (dd := de_312) rfl rfl
/-- EarthOfficeModel associate block at 305 -/
theorem t312_16 {s0 : Int} {M : Mem} {Q : AR → Mem → Prop} : Tq 312 16 [vJ, vJ, vJ, vJ, vJ, vJ, vJ, vJ, vJ, vJ] [vI s0] M Q ↔ (Q (.inl (some (vI s0))) M) :=
  Tq_blk (is := bk_312_16) (dd := de_312) rfl rfl
/-- EarthOfficeModel associate block at 306 -/
theorem t312_17 {x1 x2 x3 x6 x7 x8 x9 : Int} {M : Mem} {Q : AR → Mem → Prop} : Tq 312 17 [vR 22 0, vI x1, vI x2, vI x3, vJ, vJ, vI x6, vI x7, vI x8, vI x9] [] M Q ↔ (Tq 315 0 [vR 22 0, vI x7, vI x8, vI x9, vI x6, vJ, vJ, vJ, vJ, vJ] [] M (kV fun M1 => Tq 312 3 [vR 22 0, vI x1, vI x2, vI (w32 (x3 + 1)), vJ, vJ, vJ, vJ, vJ, vJ] [] M1 Q)) :=
  Tq_blk (is := bk_312_17) (dd := de_312) rfl rfl
/-- EarthOfficeModel sources block at 0 -/
theorem t313_0 {x1 x2 x3 : Int} {M : Mem} {Q : AR → Mem → Prop} : Tq 313 0 [vR 22 0, vI x1, vI x2, vI x3, vJ, vJ] [] M Q ↔ (Tq 313 1 [vR 22 0, vI x1, vI x2, vI x3, vI 0, vJ] [] M Q) :=
  Tq_blk (is := bk_313_0) (dd := de_313) rfl rfl
/-- EarthOfficeModel sources block at 3 -/
theorem t313_1 {x1 x2 x3 x4 : Int} {M : Mem} {Q : AR → Mem → Prop} : Tq 313 1 [vR 22 0, vI x1, vI x2, vI x3, vI x4, vJ] [] M Q ↔ (if M 22 0 23 ≤ x4 then Tq 313 2 [vJ, vJ, vJ, vJ, vJ, vJ] [] M Q else ((0 : Int) ≤ w32 (6 * x4) ∧ w32 (6 * x4) < 384) ∧ ((0 : Int) ≤ w32 (w32 (6 * x4) + 1) ∧ w32 (w32 (6 * x4) + 1) < 384) ∧ ((0 : Int) ≤ w32 (w32 (6 * x4) + 2) ∧ w32 (w32 (6 * x4) + 2) < 384) ∧ ((0 : Int) ≤ M 22024 0 (w32 (6 * x4)) ∧ M 22024 0 (w32 (6 * x4)) < 12) ∧ ((0 : Int) ≤ M 22024 0 (w32 (6 * x4)) ∧ M 22024 0 (w32 (6 * x4)) < 12) ∧ Tq 247 0 [vR 22 0, vI x1, vI x2, vI (M 22010 0 (M 22024 0 (w32 (6 * x4)))), vI (M 22011 0 (M 22024 0 (w32 (6 * x4))))] [] M (kI fun v1 M1 => Tq 262 0 [vR 22 0, vI (M 22024 0 (w32 (w32 (6 * x4) + 2))), vI v1, vI x3] [] M1 (kI fun v2 M2 => ((0 : Int) ≤ x4 ∧ x4 < 64) ∧ bd (mset M2 22036 0 x4 (w32 (M 22024 0 (w32 (w32 (6 * x4) + 1)) - v2))) fun M3 => Tq 313 1 [vR 22 0, vI x1, vI x2, vI x3, vI (w32 (x4 + 1)), vJ] [] M3 Q))) :=
  Tq_blk (is := bk_313_1) (dd := de_313) rfl rfl
/-- EarthOfficeModel sources block at 87 -/
theorem t313_2 {M : Mem} {Q : AR → Mem → Prop} : Tq 313 2 [vJ, vJ, vJ, vJ, vJ, vJ] [] M Q ↔ (Q (.inl none) M) :=
  Tq_blk (is := bk_313_2) (dd := de_313) rfl rfl
/-- EarthOfficeModel worth block at 0 -/
theorem t314_0 {x1 x2 : Int} {M : Mem} {Q : AR → Mem → Prop} : Tq 314 0 [vR 22 0, vI x1, vI x2, vJ, vJ, vJ, vJ] [] M Q ↔ (Tq 314 1 [vR 22 0, vI x1, vI x2, vI 0, vJ, vJ, vJ] [] M Q) :=
  Tq_blk (is := bk_314_0) (dd := de_314) rfl rfl
/-- EarthOfficeModel worth block at 2 -/
theorem t314_1 {x1 x2 x3 : Int} {M : Mem} {Q : AR → Mem → Prop} : Tq 314 1 [vR 22 0, vI x1, vI x2, vI x3, vJ, vJ, vJ] [] M Q ↔ (if (24 : Int) ≤ x3 then Tq 314 2 [vR 22 0, vI x1, vI x2, vJ, vJ, vJ, vJ] [] M Q else ((0 : Int) ≤ x3 ∧ x3 < 24) ∧ bd (mset M 22037 0 x3 (-99999999)) fun M1 => Tq 314 1 [vR 22 0, vI x1, vI x2, vI (w32 (x3 + 1)), vJ, vJ, vJ] [] M1 Q) :=
  Tq_blk (is := bk_314_1) (dd := de_314) rfl rfl
/-- EarthOfficeModel worth block at 22 -/
theorem t314_2 {x1 x2 : Int} {M : Mem} {Q : AR → Mem → Prop} : Tq 314 2 [vR 22 0, vI x1, vI x2, vJ, vJ, vJ, vJ] [] M Q ↔ (bd (mset M 22 0 38 0) fun M1 => Tq 314 3 [vR 22 0, vI x1, vI x2, vI 0, vI 0, vJ, vJ] [] M1 Q) :=
  Tq_blk (is := bk_314_2) (dd := de_314) rfl rfl
/-- EarthOfficeModel worth block at 32 -/
theorem t314_3_c60 {x1 x2 x3 x4 x5 x6 s1 : Int} {M : Mem} {Q : AR → Mem → Prop} : Bq 314 de_314 (List.drop 60 bk_314_3) [vR 22 0, vI x1, vI x2, vI x3, vI x4, vI x5, vI x6] [vR 22036 0, vI s1] M Q ↔ (((0 : Int) ≤ x6 ∧ x6 < 64) ∧ if M 22036 0 x6 ≤ s1 then Tq 314 9 [vR 22 0, vI x1, vI x2, vI x3, vI x4, vJ, vJ] [] M Q else Tq 314 4 [vR 22 0, vI x1, vI x2, vI x3, vI x4, vI x5, vI x6] [] M Q) :=
  Iff.rfl
theorem t314_3_c54 {x1 x2 x3 x4 x5 x6 : Int} {M : Mem} {Q : AR → Mem → Prop} : Bq 314 de_314 (List.drop 54 bk_314_3) [vR 22 0, vI x1, vI x2, vI x3, vI x4, vI x5, vI x6] [] M Q ↔ (((0 : Int) ≤ x4 ∧ x4 < 64) ∧ ((0 : Int) ≤ x6 ∧ x6 < 64) ∧ if M 22036 0 x6 ≤ M 22036 0 x4 then Tq 314 9 [vR 22 0, vI x1, vI x2, vI x3, vI x4, vJ, vJ] [] M Q else Tq 314 4 [vR 22 0, vI x1, vI x2, vI x3, vI x4, vI x5, vI x6] [] M Q) :=
  (show Bq 314 de_314 (List.drop 54 bk_314_3) [vR 22 0, vI x1, vI x2, vI x3, vI x4, vI x5, vI x6] [] M Q ↔ (((0 : Int) ≤ x4 ∧ x4 < 64) ∧ Bq 314 de_314 (List.drop 60 bk_314_3) [vR 22 0, vI x1, vI x2, vI x3, vI x4, vI x5, vI x6] [vR 22036 0, vI (M 22036 0 x4)] M Q) from Iff.rfl).trans (by simp only [t314_3_c60])
theorem t314_3_c48 {x1 x2 x3 x4 x5 : Int} {M : Mem} {Q : AR → Mem → Prop} : Bq 314 de_314 (List.drop 48 bk_314_3) [vR 22 0, vI x1, vI x2, vI x3, vI x4, vI x5, vJ] [vR 22037 0] M Q ↔ (((0 : Int) ≤ x5 ∧ x5 < 24) ∧ if M 22037 0 x5 = (-99999999) then Tq 314 4 [vR 22 0, vI x1, vI x2, vI x3, vI x4, vI x5, vI (M 22037 0 x5)] [] M Q else ((0 : Int) ≤ x4 ∧ x4 < 64) ∧ ((0 : Int) ≤ M 22037 0 x5 ∧ M 22037 0 x5 < 64) ∧ if M 22036 0 (M 22037 0 x5) ≤ M 22036 0 x4 then Tq 314 9 [vR 22 0, vI x1, vI x2, vI x3, vI x4, vJ, vJ] [] M Q else Tq 314 4 [vR 22 0, vI x1, vI x2, vI x3, vI x4, vI x5, vI (M 22037 0 x5)] [] M Q) :=
  (show Bq 314 de_314 (List.drop 48 bk_314_3) [vR 22 0, vI x1, vI x2, vI x3, vI x4, vI x5, vJ] [vR 22037 0] M Q ↔ (((0 : Int) ≤ x5 ∧ x5 < 24) ∧ if M 22037 0 x5 = (-99999999) then Tq 314 4 [vR 22 0, vI x1, vI x2, vI x3, vI x4, vI x5, vI (M 22037 0 x5)] [] M Q else Bq 314 de_314 (List.drop 54 bk_314_3) [vR 22 0, vI x1, vI x2, vI x3, vI x4, vI x5, vI (M 22037 0 x5)] [] M Q) from Iff.rfl).trans (by simp only [t314_3_c54])
theorem t314_3_c42 {x1 x2 x3 x4 s0 s1 s3 : Int} {M : Mem} {Q : AR → Mem → Prop} : Bq 314 de_314 (List.drop 42 bk_314_3) [vR 22 0, vI x1, vI x2, vI x3, vI x4, vJ, vJ] [vI s0, vI s1, vR 22024 0, vI s3] M Q ↔ (((0 : Int) ≤ w32 (s1 + s0) ∧ w32 (s1 + s0) < 384) ∧ ((0 : Int) ≤ w32 (s3 + M 22024 0 (w32 (s1 + s0))) ∧ w32 (s3 + M 22024 0 (w32 (s1 + s0))) < 24) ∧ if M 22037 0 (w32 (s3 + M 22024 0 (w32 (s1 + s0)))) = (-99999999) then Tq 314 4 [vR 22 0, vI x1, vI x2, vI x3, vI x4, vI (w32 (s3 + M 22024 0 (w32 (s1 + s0)))), vI (M 22037 0 (w32 (s3 + M 22024 0 (w32 (s1 + s0)))))] [] M Q else ((0 : Int) ≤ x4 ∧ x4 < 64) ∧ ((0 : Int) ≤ M 22037 0 (w32 (s3 + M 22024 0 (w32 (s1 + s0)))) ∧ M 22037 0 (w32 (s3 + M 22024 0 (w32 (s1 + s0)))) < 64) ∧ if M 22036 0 (M 22037 0 (w32 (s3 + M 22024 0 (w32 (s1 + s0))))) ≤ M 22036 0 x4 then Tq 314 9 [vR 22 0, vI x1, vI x2, vI x3, vI x4, vJ, vJ] [] M Q else Tq 314 4 [vR 22 0, vI x1, vI x2, vI x3, vI x4, vI (w32 (s3 + M 22024 0 (w32 (s1 + s0)))), vI (M 22037 0 (w32 (s3 + M 22024 0 (w32 (s1 + s0)))))] [] M Q) :=
  (show Bq 314 de_314 (List.drop 42 bk_314_3) [vR 22 0, vI x1, vI x2, vI x3, vI x4, vJ, vJ] [vI s0, vI s1, vR 22024 0, vI s3] M Q ↔ (((0 : Int) ≤ w32 (s1 + s0) ∧ w32 (s1 + s0) < 384) ∧ Bq 314 de_314 (List.drop 48 bk_314_3) [vR 22 0, vI x1, vI x2, vI x3, vI x4, vI (w32 (s3 + M 22024 0 (w32 (s1 + s0)))), vJ] [vR 22037 0] M Q) from Iff.rfl).trans (by simp only [t314_3_c48])
theorem t314_3_c36 {x1 x2 x3 x4 s0 : Int} {M : Mem} {Q : AR → Mem → Prop} : Bq 314 de_314 (List.drop 36 bk_314_3) [vR 22 0, vI x1, vI x2, vI x3, vI x4, vJ, vJ] [vI s0] M Q ↔ (((0 : Int) ≤ w32 (w32 (6 * x4) + 2) ∧ w32 (w32 (6 * x4) + 2) < 384) ∧ ((0 : Int) ≤ w32 (s0 + M 22024 0 (w32 (w32 (6 * x4) + 2))) ∧ w32 (s0 + M 22024 0 (w32 (w32 (6 * x4) + 2))) < 24) ∧ if M 22037 0 (w32 (s0 + M 22024 0 (w32 (w32 (6 * x4) + 2)))) = (-99999999) then Tq 314 4 [vR 22 0, vI x1, vI x2, vI x3, vI x4, vI (w32 (s0 + M 22024 0 (w32 (w32 (6 * x4) + 2)))), vI (M 22037 0 (w32 (s0 + M 22024 0 (w32 (w32 (6 * x4) + 2)))))] [] M Q else ((0 : Int) ≤ x4 ∧ x4 < 64) ∧ ((0 : Int) ≤ M 22037 0 (w32 (s0 + M 22024 0 (w32 (w32 (6 * x4) + 2)))) ∧ M 22037 0 (w32 (s0 + M 22024 0 (w32 (w32 (6 * x4) + 2)))) < 64) ∧ if M 22036 0 (M 22037 0 (w32 (s0 + M 22024 0 (w32 (w32 (6 * x4) + 2))))) ≤ M 22036 0 x4 then Tq 314 9 [vR 22 0, vI x1, vI x2, vI x3, vI x4, vJ, vJ] [] M Q else Tq 314 4 [vR 22 0, vI x1, vI x2, vI x3, vI x4, vI (w32 (s0 + M 22024 0 (w32 (w32 (6 * x4) + 2)))), vI (M 22037 0 (w32 (s0 + M 22024 0 (w32 (w32 (6 * x4) + 2)))))] [] M Q) :=
  (show Bq 314 de_314 (List.drop 36 bk_314_3) [vR 22 0, vI x1, vI x2, vI x3, vI x4, vJ, vJ] [vI s0] M Q ↔ (Bq 314 de_314 (List.drop 42 bk_314_3) [vR 22 0, vI x1, vI x2, vI x3, vI x4, vJ, vJ] [vI 2, vI (w32 (6 * x4)), vR 22024 0, vI s0] M Q) from Iff.rfl).trans (by simp only [t314_3_c42])
theorem t314_3_c30 {x1 x2 x3 x4 s1 : Int} {M : Mem} {Q : AR → Mem → Prop} : Bq 314 de_314 (List.drop 30 bk_314_3) [vR 22 0, vI x1, vI x2, vI x3, vI x4, vJ, vJ] [vR 22 0, vI s1] M Q ↔ (((0 : Int) ≤ w32 (6 * x4) ∧ w32 (6 * x4) < 384) ∧ ((0 : Int) ≤ w32 (w32 (6 * x4) + 2) ∧ w32 (w32 (6 * x4) + 2) < 384) ∧ ((0 : Int) ≤ w32 (w32 (s1 * (M 22024 0 (w32 (6 * x4)))) + M 22024 0 (w32 (w32 (6 * x4) + 2))) ∧ w32 (w32 (s1 * (M 22024 0 (w32 (6 * x4)))) + M 22024 0 (w32 (w32 (6 * x4) + 2))) < 24) ∧ if M 22037 0 (w32 (w32 (s1 * (M 22024 0 (w32 (6 * x4)))) + M 22024 0 (w32 (w32 (6 * x4) + 2)))) = (-99999999) then Tq 314 4 [vR 22 0, vI x1, vI x2, vI x3, vI x4, vI (w32 (w32 (s1 * (M 22024 0 (w32 (6 * x4)))) + M 22024 0 (w32 (w32 (6 * x4) + 2)))), vI (M 22037 0 (w32 (w32 (s1 * (M 22024 0 (w32 (6 * x4)))) + M 22024 0 (w32 (w32 (6 * x4) + 2)))))] [] M Q else ((0 : Int) ≤ x4 ∧ x4 < 64) ∧ ((0 : Int) ≤ M 22037 0 (w32 (w32 (s1 * (M 22024 0 (w32 (6 * x4)))) + M 22024 0 (w32 (w32 (6 * x4) + 2)))) ∧ M 22037 0 (w32 (w32 (s1 * (M 22024 0 (w32 (6 * x4)))) + M 22024 0 (w32 (w32 (6 * x4) + 2)))) < 64) ∧ if M 22036 0 (M 22037 0 (w32 (w32 (s1 * (M 22024 0 (w32 (6 * x4)))) + M 22024 0 (w32 (w32 (6 * x4) + 2))))) ≤ M 22036 0 x4 then Tq 314 9 [vR 22 0, vI x1, vI x2, vI x3, vI x4, vJ, vJ] [] M Q else Tq 314 4 [vR 22 0, vI x1, vI x2, vI x3, vI x4, vI (w32 (w32 (s1 * (M 22024 0 (w32 (6 * x4)))) + M 22024 0 (w32 (w32 (6 * x4) + 2)))), vI (M 22037 0 (w32 (w32 (s1 * (M 22024 0 (w32 (6 * x4)))) + M 22024 0 (w32 (w32 (6 * x4) + 2)))))] [] M Q) :=
  (show Bq 314 de_314 (List.drop 30 bk_314_3) [vR 22 0, vI x1, vI x2, vI x3, vI x4, vJ, vJ] [vR 22 0, vI s1] M Q ↔ (((0 : Int) ≤ w32 (6 * x4) ∧ w32 (6 * x4) < 384) ∧ Bq 314 de_314 (List.drop 36 bk_314_3) [vR 22 0, vI x1, vI x2, vI x3, vI x4, vJ, vJ] [vI (w32 (s1 * (M 22024 0 (w32 (6 * x4)))))] M Q) from Iff.rfl).trans (by simp only [t314_3_c36])
theorem t314_3_c24 {x1 x2 x3 x4 s0 : Int} {M : Mem} {Q : AR → Mem → Prop} : Bq 314 de_314 (List.drop 24 bk_314_3) [vR 22 0, vI x1, vI x2, vI x3, vI x4, vJ, vJ] [vI s0] M Q ↔ (if w32 (x1 + x2) < s0 then Tq 314 9 [vR 22 0, vI x1, vI x2, vI x3, vI x4, vJ, vJ] [] M Q else ((0 : Int) ≤ w32 (6 * x4) ∧ w32 (6 * x4) < 384) ∧ ((0 : Int) ≤ w32 (w32 (6 * x4) + 2) ∧ w32 (w32 (6 * x4) + 2) < 384) ∧ ((0 : Int) ≤ w32 (w32 (2 * (M 22024 0 (w32 (6 * x4)))) + M 22024 0 (w32 (w32 (6 * x4) + 2))) ∧ w32 (w32 (2 * (M 22024 0 (w32 (6 * x4)))) + M 22024 0 (w32 (w32 (6 * x4) + 2))) < 24) ∧ if M 22037 0 (w32 (w32 (2 * (M 22024 0 (w32 (6 * x4)))) + M 22024 0 (w32 (w32 (6 * x4) + 2)))) = (-99999999) then Tq 314 4 [vR 22 0, vI x1, vI x2, vI x3, vI x4, vI (w32 (w32 (2 * (M 22024 0 (w32 (6 * x4)))) + M 22024 0 (w32 (w32 (6 * x4) + 2)))), vI (M 22037 0 (w32 (w32 (2 * (M 22024 0 (w32 (6 * x4)))) + M 22024 0 (w32 (w32 (6 * x4) + 2)))))] [] M Q else ((0 : Int) ≤ x4 ∧ x4 < 64) ∧ ((0 : Int) ≤ M 22037 0 (w32 (w32 (2 * (M 22024 0 (w32 (6 * x4)))) + M 22024 0 (w32 (w32 (6 * x4) + 2)))) ∧ M 22037 0 (w32 (w32 (2 * (M 22024 0 (w32 (6 * x4)))) + M 22024 0 (w32 (w32 (6 * x4) + 2)))) < 64) ∧ if M 22036 0 (M 22037 0 (w32 (w32 (2 * (M 22024 0 (w32 (6 * x4)))) + M 22024 0 (w32 (w32 (6 * x4) + 2))))) ≤ M 22036 0 x4 then Tq 314 9 [vR 22 0, vI x1, vI x2, vI x3, vI x4, vJ, vJ] [] M Q else Tq 314 4 [vR 22 0, vI x1, vI x2, vI x3, vI x4, vI (w32 (w32 (2 * (M 22024 0 (w32 (6 * x4)))) + M 22024 0 (w32 (w32 (6 * x4) + 2)))), vI (M 22037 0 (w32 (w32 (2 * (M 22024 0 (w32 (6 * x4)))) + M 22024 0 (w32 (w32 (6 * x4) + 2)))))] [] M Q) :=
  (show Bq 314 de_314 (List.drop 24 bk_314_3) [vR 22 0, vI x1, vI x2, vI x3, vI x4, vJ, vJ] [vI s0] M Q ↔ (if w32 (x1 + x2) < s0 then Tq 314 9 [vR 22 0, vI x1, vI x2, vI x3, vI x4, vJ, vJ] [] M Q else Bq 314 de_314 (List.drop 30 bk_314_3) [vR 22 0, vI x1, vI x2, vI x3, vI x4, vJ, vJ] [vR 22 0, vI 2] M Q) from Iff.rfl).trans (by simp only [t314_3_c30])
theorem t314_3_c18 {x1 x2 x3 x4 s0 : Int} {M : Mem} {Q : AR → Mem → Prop} : Bq 314 de_314 (List.drop 18 bk_314_3) [vR 22 0, vI x1, vI x2, vI x3, vI x4, vJ, vJ] [vI s0] M Q ↔ (if s0 < x1 then Tq 314 9 [vR 22 0, vI x1, vI x2, vI x3, vI x4, vJ, vJ] [] M Q else ((0 : Int) ≤ x4 ∧ x4 < 64) ∧ if w32 (x1 + x2) < M 22036 0 x4 then Tq 314 9 [vR 22 0, vI x1, vI x2, vI x3, vI x4, vJ, vJ] [] M Q else ((0 : Int) ≤ w32 (6 * x4) ∧ w32 (6 * x4) < 384) ∧ ((0 : Int) ≤ w32 (w32 (6 * x4) + 2) ∧ w32 (w32 (6 * x4) + 2) < 384) ∧ ((0 : Int) ≤ w32 (w32 (2 * (M 22024 0 (w32 (6 * x4)))) + M 22024 0 (w32 (w32 (6 * x4) + 2))) ∧ w32 (w32 (2 * (M 22024 0 (w32 (6 * x4)))) + M 22024 0 (w32 (w32 (6 * x4) + 2))) < 24) ∧ if M 22037 0 (w32 (w32 (2 * (M 22024 0 (w32 (6 * x4)))) + M 22024 0 (w32 (w32 (6 * x4) + 2)))) = (-99999999) then Tq 314 4 [vR 22 0, vI x1, vI x2, vI x3, vI x4, vI (w32 (w32 (2 * (M 22024 0 (w32 (6 * x4)))) + M 22024 0 (w32 (w32 (6 * x4) + 2)))), vI (M 22037 0 (w32 (w32 (2 * (M 22024 0 (w32 (6 * x4)))) + M 22024 0 (w32 (w32 (6 * x4) + 2)))))] [] M Q else ((0 : Int) ≤ x4 ∧ x4 < 64) ∧ ((0 : Int) ≤ M 22037 0 (w32 (w32 (2 * (M 22024 0 (w32 (6 * x4)))) + M 22024 0 (w32 (w32 (6 * x4) + 2)))) ∧ M 22037 0 (w32 (w32 (2 * (M 22024 0 (w32 (6 * x4)))) + M 22024 0 (w32 (w32 (6 * x4) + 2)))) < 64) ∧ if M 22036 0 (M 22037 0 (w32 (w32 (2 * (M 22024 0 (w32 (6 * x4)))) + M 22024 0 (w32 (w32 (6 * x4) + 2))))) ≤ M 22036 0 x4 then Tq 314 9 [vR 22 0, vI x1, vI x2, vI x3, vI x4, vJ, vJ] [] M Q else Tq 314 4 [vR 22 0, vI x1, vI x2, vI x3, vI x4, vI (w32 (w32 (2 * (M 22024 0 (w32 (6 * x4)))) + M 22024 0 (w32 (w32 (6 * x4) + 2)))), vI (M 22037 0 (w32 (w32 (2 * (M 22024 0 (w32 (6 * x4)))) + M 22024 0 (w32 (w32 (6 * x4) + 2)))))] [] M Q) :=
  (show Bq 314 de_314 (List.drop 18 bk_314_3) [vR 22 0, vI x1, vI x2, vI x3, vI x4, vJ, vJ] [vI s0] M Q ↔ (if s0 < x1 then Tq 314 9 [vR 22 0, vI x1, vI x2, vI x3, vI x4, vJ, vJ] [] M Q else ((0 : Int) ≤ x4 ∧ x4 < 64) ∧ Bq 314 de_314 (List.drop 24 bk_314_3) [vR 22 0, vI x1, vI x2, vI x3, vI x4, vJ, vJ] [vI (M 22036 0 x4)] M Q) from Iff.rfl).trans (by simp only [t314_3_c24])
theorem t314_3_c12 {x1 x2 x3 x4 s0 : Int} {M : Mem} {Q : AR → Mem → Prop} : Bq 314 de_314 (List.drop 12 bk_314_3) [vR 22 0, vI x1, vI x2, vI x3, vI x4, vJ, vJ] [vI s0] M Q ↔ (if ¬ s0 = (-99999999) then Tq 314 9 [vR 22 0, vI x1, vI x2, vI x3, vI x4, vJ, vJ] [] M Q else ((0 : Int) ≤ x4 ∧ x4 < 64) ∧ if M 22036 0 x4 < x1 then Tq 314 9 [vR 22 0, vI x1, vI x2, vI x3, vI x4, vJ, vJ] [] M Q else ((0 : Int) ≤ x4 ∧ x4 < 64) ∧ if w32 (x1 + x2) < M 22036 0 x4 then Tq 314 9 [vR 22 0, vI x1, vI x2, vI x3, vI x4, vJ, vJ] [] M Q else ((0 : Int) ≤ w32 (6 * x4) ∧ w32 (6 * x4) < 384) ∧ ((0 : Int) ≤ w32 (w32 (6 * x4) + 2) ∧ w32 (w32 (6 * x4) + 2) < 384) ∧ ((0 : Int) ≤ w32 (w32 (2 * (M 22024 0 (w32 (6 * x4)))) + M 22024 0 (w32 (w32 (6 * x4) + 2))) ∧ w32 (w32 (2 * (M 22024 0 (w32 (6 * x4)))) + M 22024 0 (w32 (w32 (6 * x4) + 2))) < 24) ∧ if M 22037 0 (w32 (w32 (2 * (M 22024 0 (w32 (6 * x4)))) + M 22024 0 (w32 (w32 (6 * x4) + 2)))) = (-99999999) then Tq 314 4 [vR 22 0, vI x1, vI x2, vI x3, vI x4, vI (w32 (w32 (2 * (M 22024 0 (w32 (6 * x4)))) + M 22024 0 (w32 (w32 (6 * x4) + 2)))), vI (M 22037 0 (w32 (w32 (2 * (M 22024 0 (w32 (6 * x4)))) + M 22024 0 (w32 (w32 (6 * x4) + 2)))))] [] M Q else ((0 : Int) ≤ x4 ∧ x4 < 64) ∧ ((0 : Int) ≤ M 22037 0 (w32 (w32 (2 * (M 22024 0 (w32 (6 * x4)))) + M 22024 0 (w32 (w32 (6 * x4) + 2)))) ∧ M 22037 0 (w32 (w32 (2 * (M 22024 0 (w32 (6 * x4)))) + M 22024 0 (w32 (w32 (6 * x4) + 2)))) < 64) ∧ if M 22036 0 (M 22037 0 (w32 (w32 (2 * (M 22024 0 (w32 (6 * x4)))) + M 22024 0 (w32 (w32 (6 * x4) + 2))))) ≤ M 22036 0 x4 then Tq 314 9 [vR 22 0, vI x1, vI x2, vI x3, vI x4, vJ, vJ] [] M Q else Tq 314 4 [vR 22 0, vI x1, vI x2, vI x3, vI x4, vI (w32 (w32 (2 * (M 22024 0 (w32 (6 * x4)))) + M 22024 0 (w32 (w32 (6 * x4) + 2)))), vI (M 22037 0 (w32 (w32 (2 * (M 22024 0 (w32 (6 * x4)))) + M 22024 0 (w32 (w32 (6 * x4) + 2)))))] [] M Q) :=
  (show Bq 314 de_314 (List.drop 12 bk_314_3) [vR 22 0, vI x1, vI x2, vI x3, vI x4, vJ, vJ] [vI s0] M Q ↔ (if ¬ s0 = (-99999999) then Tq 314 9 [vR 22 0, vI x1, vI x2, vI x3, vI x4, vJ, vJ] [] M Q else ((0 : Int) ≤ x4 ∧ x4 < 64) ∧ Bq 314 de_314 (List.drop 18 bk_314_3) [vR 22 0, vI x1, vI x2, vI x3, vI x4, vJ, vJ] [vI (M 22036 0 x4)] M Q) from Iff.rfl).trans (by simp only [t314_3_c18])
theorem t314_3_c6 {x1 x2 x3 x4 : Int} {M : Mem} {Q : AR → Mem → Prop} : Bq 314 de_314 (List.drop 6 bk_314_3) [vR 22 0, vI x1, vI x2, vI x3, vI x4, vJ, vJ] [vR 22024 0] M Q ↔ (((0 : Int) ≤ w32 (w32 (6 * x4) + 5) ∧ w32 (w32 (6 * x4) + 5) < 384) ∧ if ¬ M 22024 0 (w32 (w32 (6 * x4) + 5)) = (-99999999) then Tq 314 9 [vR 22 0, vI x1, vI x2, vI x3, vI x4, vJ, vJ] [] M Q else ((0 : Int) ≤ x4 ∧ x4 < 64) ∧ if M 22036 0 x4 < x1 then Tq 314 9 [vR 22 0, vI x1, vI x2, vI x3, vI x4, vJ, vJ] [] M Q else ((0 : Int) ≤ x4 ∧ x4 < 64) ∧ if w32 (x1 + x2) < M 22036 0 x4 then Tq 314 9 [vR 22 0, vI x1, vI x2, vI x3, vI x4, vJ, vJ] [] M Q else ((0 : Int) ≤ w32 (6 * x4) ∧ w32 (6 * x4) < 384) ∧ ((0 : Int) ≤ w32 (w32 (6 * x4) + 2) ∧ w32 (w32 (6 * x4) + 2) < 384) ∧ ((0 : Int) ≤ w32 (w32 (2 * (M 22024 0 (w32 (6 * x4)))) + M 22024 0 (w32 (w32 (6 * x4) + 2))) ∧ w32 (w32 (2 * (M 22024 0 (w32 (6 * x4)))) + M 22024 0 (w32 (w32 (6 * x4) + 2))) < 24) ∧ if M 22037 0 (w32 (w32 (2 * (M 22024 0 (w32 (6 * x4)))) + M 22024 0 (w32 (w32 (6 * x4) + 2)))) = (-99999999) then Tq 314 4 [vR 22 0, vI x1, vI x2, vI x3, vI x4, vI (w32 (w32 (2 * (M 22024 0 (w32 (6 * x4)))) + M 22024 0 (w32 (w32 (6 * x4) + 2)))), vI (M 22037 0 (w32 (w32 (2 * (M 22024 0 (w32 (6 * x4)))) + M 22024 0 (w32 (w32 (6 * x4) + 2)))))] [] M Q else ((0 : Int) ≤ x4 ∧ x4 < 64) ∧ ((0 : Int) ≤ M 22037 0 (w32 (w32 (2 * (M 22024 0 (w32 (6 * x4)))) + M 22024 0 (w32 (w32 (6 * x4) + 2)))) ∧ M 22037 0 (w32 (w32 (2 * (M 22024 0 (w32 (6 * x4)))) + M 22024 0 (w32 (w32 (6 * x4) + 2)))) < 64) ∧ if M 22036 0 (M 22037 0 (w32 (w32 (2 * (M 22024 0 (w32 (6 * x4)))) + M 22024 0 (w32 (w32 (6 * x4) + 2))))) ≤ M 22036 0 x4 then Tq 314 9 [vR 22 0, vI x1, vI x2, vI x3, vI x4, vJ, vJ] [] M Q else Tq 314 4 [vR 22 0, vI x1, vI x2, vI x3, vI x4, vI (w32 (w32 (2 * (M 22024 0 (w32 (6 * x4)))) + M 22024 0 (w32 (w32 (6 * x4) + 2)))), vI (M 22037 0 (w32 (w32 (2 * (M 22024 0 (w32 (6 * x4)))) + M 22024 0 (w32 (w32 (6 * x4) + 2)))))] [] M Q) :=
  (show Bq 314 de_314 (List.drop 6 bk_314_3) [vR 22 0, vI x1, vI x2, vI x3, vI x4, vJ, vJ] [vR 22024 0] M Q ↔ (((0 : Int) ≤ w32 (w32 (6 * x4) + 5) ∧ w32 (w32 (6 * x4) + 5) < 384) ∧ Bq 314 de_314 (List.drop 12 bk_314_3) [vR 22 0, vI x1, vI x2, vI x3, vI x4, vJ, vJ] [vI (M 22024 0 (w32 (w32 (6 * x4) + 5)))] M Q) from Iff.rfl).trans (by simp only [t314_3_c12])
theorem t314_3 {x1 x2 x3 x4 : Int} {M : Mem} {Q : AR → Mem → Prop} : Tq 314 3 [vR 22 0, vI x1, vI x2, vI x3, vI x4, vJ, vJ] [] M Q ↔ (if M 22 0 23 ≤ x4 then Tq 314 10 [vJ, vJ, vJ, vI x3, vJ, vJ, vJ] [] M Q else ((0 : Int) ≤ w32 (w32 (6 * x4) + 5) ∧ w32 (w32 (6 * x4) + 5) < 384) ∧ if ¬ M 22024 0 (w32 (w32 (6 * x4) + 5)) = (-99999999) then Tq 314 9 [vR 22 0, vI x1, vI x2, vI x3, vI x4, vJ, vJ] [] M Q else ((0 : Int) ≤ x4 ∧ x4 < 64) ∧ if M 22036 0 x4 < x1 then Tq 314 9 [vR 22 0, vI x1, vI x2, vI x3, vI x4, vJ, vJ] [] M Q else ((0 : Int) ≤ x4 ∧ x4 < 64) ∧ if w32 (x1 + x2) < M 22036 0 x4 then Tq 314 9 [vR 22 0, vI x1, vI x2, vI x3, vI x4, vJ, vJ] [] M Q else ((0 : Int) ≤ w32 (6 * x4) ∧ w32 (6 * x4) < 384) ∧ ((0 : Int) ≤ w32 (w32 (6 * x4) + 2) ∧ w32 (w32 (6 * x4) + 2) < 384) ∧ ((0 : Int) ≤ w32 (w32 (2 * (M 22024 0 (w32 (6 * x4)))) + M 22024 0 (w32 (w32 (6 * x4) + 2))) ∧ w32 (w32 (2 * (M 22024 0 (w32 (6 * x4)))) + M 22024 0 (w32 (w32 (6 * x4) + 2))) < 24) ∧ if M 22037 0 (w32 (w32 (2 * (M 22024 0 (w32 (6 * x4)))) + M 22024 0 (w32 (w32 (6 * x4) + 2)))) = (-99999999) then Tq 314 4 [vR 22 0, vI x1, vI x2, vI x3, vI x4, vI (w32 (w32 (2 * (M 22024 0 (w32 (6 * x4)))) + M 22024 0 (w32 (w32 (6 * x4) + 2)))), vI (M 22037 0 (w32 (w32 (2 * (M 22024 0 (w32 (6 * x4)))) + M 22024 0 (w32 (w32 (6 * x4) + 2)))))] [] M Q else ((0 : Int) ≤ x4 ∧ x4 < 64) ∧ ((0 : Int) ≤ M 22037 0 (w32 (w32 (2 * (M 22024 0 (w32 (6 * x4)))) + M 22024 0 (w32 (w32 (6 * x4) + 2)))) ∧ M 22037 0 (w32 (w32 (2 * (M 22024 0 (w32 (6 * x4)))) + M 22024 0 (w32 (w32 (6 * x4) + 2)))) < 64) ∧ if M 22036 0 (M 22037 0 (w32 (w32 (2 * (M 22024 0 (w32 (6 * x4)))) + M 22024 0 (w32 (w32 (6 * x4) + 2))))) ≤ M 22036 0 x4 then Tq 314 9 [vR 22 0, vI x1, vI x2, vI x3, vI x4, vJ, vJ] [] M Q else Tq 314 4 [vR 22 0, vI x1, vI x2, vI x3, vI x4, vI (w32 (w32 (2 * (M 22024 0 (w32 (6 * x4)))) + M 22024 0 (w32 (w32 (6 * x4) + 2)))), vI (M 22037 0 (w32 (w32 (2 * (M 22024 0 (w32 (6 * x4)))) + M 22024 0 (w32 (w32 (6 * x4) + 2)))))] [] M Q) :=
  (show Tq 314 3 [vR 22 0, vI x1, vI x2, vI x3, vI x4, vJ, vJ] [] M Q ↔ (if M 22 0 23 ≤ x4 then Tq 314 10 [vJ, vJ, vJ, vI x3, vJ, vJ, vJ] [] M Q else Bq 314 de_314 (List.drop 6 bk_314_3) [vR 22 0, vI x1, vI x2, vI x3, vI x4, vJ, vJ] [vR 22024 0] M Q) from Tq_blk (is := bk_314_3) (dd := de_314) rfl rfl).trans (by simp only [t314_3_c6])
/-- EarthOfficeModel worth block at 142 -/
theorem t314_4 {x1 x2 x3 x4 x5 x6 : Int} {M : Mem} {Q : AR → Mem → Prop} : Tq 314 4 [vR 22 0, vI x1, vI x2, vI x3, vI x4, vI x5, vI x6] [] M Q ↔ (((0 : Int) ≤ x5 ∧ x5 < 24) ∧ bd (mset M 22037 0 x5 x4) fun M1 => ((0 : Int) ≤ w32 (w32 (6 * x4) + 3) ∧ w32 (w32 (6 * x4) + 3) < 384) ∧ if ¬ x6 = (-99999999) then Tq 314 5 [vR 22 0, vI x1, vI x2, vJ, vI x4, vJ, vI x6] [vI (M1 22024 0 (w32 (w32 (6 * x4) + 3))), vI x3] M1 Q else Tq 314 6 [vR 22 0, vI x1, vI x2, vJ, vI x4, vJ, vI x6] [vI 0, vI (M1 22024 0 (w32 (w32 (6 * x4) + 3))), vI x3] M1 Q) :=
  Tq_blk (is := bk_314_4) (dd := de_314) rfl rfl
/-- EarthOfficeModel worth block at 175 -/
theorem t314_5 {x1 x2 x4 x6 s0 s1 : Int} {M : Mem} {Q : AR → Mem → Prop} : Tq 314 5 [vR 22 0, vI x1, vI x2, vJ, vI x4, vJ, vI x6] [vI s0, vI s1] M Q ↔ (((0 : Int) ≤ w32 (w32 (6 * x6) + 3) ∧ w32 (w32 (6 * x6) + 3) < 384) ∧ Tq 314 6 [vR 22 0, vI x1, vI x2, vJ, vI x4, vJ, vI x6] [vI (M 22024 0 (w32 (w32 (6 * x6) + 3))), vI s0, vI s1] M Q) :=
  Tq_blk (is := bk_314_5) (dd := de_314) rfl rfl
/-- EarthOfficeModel worth block at 187 -/
theorem t314_6 {x1 x2 x4 x6 s0 s1 s2 : Int} {M : Mem} {Q : AR → Mem → Prop} : Tq 314 6 [vR 22 0, vI x1, vI x2, vJ, vI x4, vJ, vI x6] [vI s0, vI s1, vI s2] M Q ↔ (if ¬ x6 = (-99999999) then Tq 314 7 [vR 22 0, vI x1, vI x2, vI (w32 (s2 + w32 (s1 - s0))), vI x4, vJ, vJ] [vI (M 22 0 38), vR 22 0] M Q else Tq 314 8 [vR 22 0, vI x1, vI x2, vI (w32 (s2 + w32 (s1 - s0))), vI x4, vJ, vJ] [vI 1, vI (M 22 0 38), vR 22 0] M Q) :=
  Tq_blk (is := bk_314_6) (dd := de_314) rfl rfl
/-- EarthOfficeModel worth block at 206 -/
theorem t314_7 {x1 x2 x3 x4 s0 : Int} {M : Mem} {Q : AR → Mem → Prop} : Tq 314 7 [vR 22 0, vI x1, vI x2, vI x3, vI x4, vJ, vJ] [vI s0, vR 22 0] M Q ↔ (Tq 314 8 [vR 22 0, vI x1, vI x2, vI x3, vI x4, vJ, vJ] [vI 0, vI s0, vR 22 0] M Q) :=
  Tq_blk (is := bk_314_7) (dd := de_314) rfl rfl
/-- EarthOfficeModel worth block at 207 -/
theorem t314_8 {x1 x2 x3 x4 s0 s1 : Int} {M : Mem} {Q : AR → Mem → Prop} : Tq 314 8 [vR 22 0, vI x1, vI x2, vI x3, vI x4, vJ, vJ] [vI s0, vI s1, vR 22 0] M Q ↔ (bd (mset M 22 0 38 (w32 (s1 + s0))) fun M1 => Tq 314 9 [vR 22 0, vI x1, vI x2, vI x3, vI x4, vJ, vJ] [] M1 Q) :=
  Tq_blk (is := bk_314_8) (dd := de_314) rfl rfl
/-- EarthOfficeModel worth block at 211 -/
theorem t314_9 {x1 x2 x3 x4 : Int} {M : Mem} {Q : AR → Mem → Prop} : Tq 314 9 [vR 22 0, vI x1, vI x2, vI x3, vI x4, vJ, vJ] [] M Q ↔ (Tq 314 3 [vR 22 0, vI x1, vI x2, vI x3, vI (w32 (x4 + 1)), vJ, vJ] [] M Q) :=
  Tq_blk (is := bk_314_9) (dd := de_314) rfl rfl
/-- EarthOfficeModel worth block at 217 -/
theorem t314_10 {x3 : Int} {M : Mem} {Q : AR → Mem → Prop} : Tq 314 10 [vJ, vJ, vJ, vI x3, vJ, vJ, vJ] [] M Q ↔ (Q (.inl (some (vI x3))) M) :=
  Tq_blk (is := bk_314_10) (dd := de_314) rfl rfl
/-- EarthOfficeModel makes block at 0 -/
theorem t315_0 {x1 x2 x3 x4 : Int} {M : Mem} {Q : AR → Mem → Prop} : Tq 315 0 [vR 22 0, vI x1, vI x2, vI x3, vI x4, vJ, vJ, vJ, vJ, vJ] [] M Q ↔ (Tq 207 0 [vR 22 0] [] M (kI fun v1 M1 => Tq 315 1 [vR 22 0, vI x1, vI x2, vI x3, vI x4, vI v1, vI 0, vI 0, vJ, vJ] [] M1 Q)) :=
  Tq_blk (is := bk_315_0) (dd := de_315) rfl rfl
/-- EarthOfficeModel makes block at 12 -/
theorem t315_1_c6 {x1 x2 x3 x4 x5 x6 x7 s0 : Int} {M : Mem} {Q : AR → Mem → Prop} : Bq 315 de_315 (List.drop 6 bk_315_1) [vR 22 0, vI x1, vI x2, vI x3, vI x4, vI x5, vI x6, vI x7, vJ, vJ] [vI s0, vR 22037 0] M Q ↔ (((0 : Int) ≤ s0 ∧ s0 < 24) ∧ if M 22037 0 s0 = (-99999999) then Tq 315 4 [vR 22 0, vI x1, vI x2, vI x3, vI x4, vI x5, vI x6, vI x7, vJ, vJ] [] M Q else Tq 315 2 [vR 22 0, vI x1, vI x2, vI x3, vI x4, vI x5, vI x6, vI x7, vI (M 22037 0 s0), vI 0] [] M Q) :=
  Iff.rfl
theorem t315_1 {x1 x2 x3 x4 x5 x6 x7 : Int} {M : Mem} {Q : AR → Mem → Prop} : Tq 315 1 [vR 22 0, vI x1, vI x2, vI x3, vI x4, vI x5, vI x6, vI x7, vJ, vJ] [] M Q ↔ (if (24 : Int) ≤ x7 then Tq 315 5 [vR 22 0, vI x1, vI x2, vI x3, vI x4, vI x5, vI x6, vJ, vJ, vJ] [] M Q else ((0 : Int) ≤ x7 ∧ x7 < 24) ∧ if M 22037 0 x7 = (-99999999) then Tq 315 4 [vR 22 0, vI x1, vI x2, vI x3, vI x4, vI x5, vI x6, vI x7, vJ, vJ] [] M Q else Tq 315 2 [vR 22 0, vI x1, vI x2, vI x3, vI x4, vI x5, vI x6, vI x7, vI (M 22037 0 x7), vI 0] [] M Q) :=
  (show Tq 315 1 [vR 22 0, vI x1, vI x2, vI x3, vI x4, vI x5, vI x6, vI x7, vJ, vJ] [] M Q ↔ (if (24 : Int) ≤ x7 then Tq 315 5 [vR 22 0, vI x1, vI x2, vI x3, vI x4, vI x5, vI x6, vJ, vJ, vJ] [] M Q else Bq 315 de_315 (List.drop 6 bk_315_1) [vR 22 0, vI x1, vI x2, vI x3, vI x4, vI x5, vI x6, vI x7, vJ, vJ] [vI x7, vR 22037 0] M Q) from Tq_blk (is := bk_315_1) (dd := de_315) rfl rfl).trans (by simp only [t315_1_c6])
/-- EarthOfficeModel makes block at 38 -/
theorem t315_2_c24 {x1 x2 x3 x4 x5 x6 x7 x8 x9 s0 s2 : Int} {M : Mem} {Q : AR → Mem → Prop} : Bq 315 de_315 (List.drop 24 bk_315_2) [vR 22 0, vI x1, vI x2, vI x3, vI x4, vI x5, vI x6, vI x7, vI x8, vI x9] [vI s0, vR 22024 0, vI s2, vR 22031 0] M Q ↔ (((0 : Int) ≤ s0 ∧ s0 < 384) ∧ ((0 : Int) ≤ s2 ∧ s2 < 2880) ∧ bd (mset M 22031 0 s2 (M 22024 0 s0)) fun M1 => Tq 315 2 [vR 22 0, vI x1, vI x2, vI x3, vI x4, vI x5, vI x6, vI x7, vI x8, vI (w32 (x9 + 1))] [] M1 Q) :=
  Iff.rfl
theorem t315_2_c18 {x1 x2 x3 x4 x5 x6 x7 x8 x9 s1 : Int} {M : Mem} {Q : AR → Mem → Prop} : Bq 315 de_315 (List.drop 18 bk_315_2) [vR 22 0, vI x1, vI x2, vI x3, vI x4, vI x5, vI x6, vI x7, vI x8, vI x9] [vR 22 0, vI s1, vR 22031 0] M Q ↔ (((0 : Int) ≤ w32 (w32 (6 * x8) + x9) ∧ w32 (w32 (6 * x8) + x9) < 384) ∧ ((0 : Int) ≤ s1 ∧ s1 < 2880) ∧ bd (mset M 22031 0 s1 (M 22024 0 (w32 (w32 (6 * x8) + x9)))) fun M1 => Tq 315 2 [vR 22 0, vI x1, vI x2, vI x3, vI x4, vI x5, vI x6, vI x7, vI x8, vI (w32 (x9 + 1))] [] M1 Q) :=
  (show Bq 315 de_315 (List.drop 18 bk_315_2) [vR 22 0, vI x1, vI x2, vI x3, vI x4, vI x5, vI x6, vI x7, vI x8, vI x9] [vR 22 0, vI s1, vR 22031 0] M Q ↔ (Bq 315 de_315 (List.drop 24 bk_315_2) [vR 22 0, vI x1, vI x2, vI x3, vI x4, vI x5, vI x6, vI x7, vI x8, vI x9] [vI (w32 (w32 (6 * x8) + x9)), vR 22024 0, vI s1, vR 22031 0] M Q) from Iff.rfl).trans (by simp only [t315_2_c24])
theorem t315_2_c12 {x1 x2 x3 x4 x5 x6 x7 x8 x9 s0 s2 s3 : Int} {M : Mem} {Q : AR → Mem → Prop} : Bq 315 de_315 (List.drop 12 bk_315_2) [vR 22 0, vI x1, vI x2, vI x3, vI x4, vI x5, vI x6, vI x7, vI x8, vI x9] [vI s0, vR 22030 0, vI s2, vI s3, vR 22031 0] M Q ↔ (((0 : Int) ≤ s0 ∧ s0 < 24) ∧ ((0 : Int) ≤ w32 (w32 (6 * x8) + x9) ∧ w32 (w32 (6 * x8) + x9) < 384) ∧ ((0 : Int) ≤ w32 (w32 (s3 * (w32 (s2 + M 22030 0 s0))) + x9) ∧ w32 (w32 (s3 * (w32 (s2 + M 22030 0 s0))) + x9) < 2880) ∧ bd (mset M 22031 0 (w32 (w32 (s3 * (w32 (s2 + M 22030 0 s0))) + x9)) (M 22024 0 (w32 (w32 (6 * x8) + x9)))) fun M1 => Tq 315 2 [vR 22 0, vI x1, vI x2, vI x3, vI x4, vI x5, vI x6, vI x7, vI x8, vI (w32 (x9 + 1))] [] M1 Q) :=
  (show Bq 315 de_315 (List.drop 12 bk_315_2) [vR 22 0, vI x1, vI x2, vI x3, vI x4, vI x5, vI x6, vI x7, vI x8, vI x9] [vI s0, vR 22030 0, vI s2, vI s3, vR 22031 0] M Q ↔ (((0 : Int) ≤ s0 ∧ s0 < 24) ∧ Bq 315 de_315 (List.drop 18 bk_315_2) [vR 22 0, vI x1, vI x2, vI x3, vI x4, vI x5, vI x6, vI x7, vI x8, vI x9] [vR 22 0, vI (w32 (w32 (s3 * (w32 (s2 + M 22030 0 s0))) + x9)), vR 22031 0] M Q) from Iff.rfl).trans (by simp only [t315_2_c18])
theorem t315_2_c6 {x1 x2 x3 x4 x5 x6 x7 x8 x9 s0 : Int} {M : Mem} {Q : AR → Mem → Prop} : Bq 315 de_315 (List.drop 6 bk_315_2) [vR 22 0, vI x1, vI x2, vI x3, vI x4, vI x5, vI x6, vI x7, vI x8, vI x9] [vI s0, vR 22031 0] M Q ↔ (((0 : Int) ≤ x5 ∧ x5 < 24) ∧ ((0 : Int) ≤ w32 (w32 (6 * x8) + x9) ∧ w32 (w32 (6 * x8) + x9) < 384) ∧ ((0 : Int) ≤ w32 (w32 (s0 * (w32 (w32 (24 * x5) + M 22030 0 x5))) + x9) ∧ w32 (w32 (s0 * (w32 (w32 (24 * x5) + M 22030 0 x5))) + x9) < 2880) ∧ bd (mset M 22031 0 (w32 (w32 (s0 * (w32 (w32 (24 * x5) + M 22030 0 x5))) + x9)) (M 22024 0 (w32 (w32 (6 * x8) + x9)))) fun M1 => Tq 315 2 [vR 22 0, vI x1, vI x2, vI x3, vI x4, vI x5, vI x6, vI x7, vI x8, vI (w32 (x9 + 1))] [] M1 Q) :=
  (show Bq 315 de_315 (List.drop 6 bk_315_2) [vR 22 0, vI x1, vI x2, vI x3, vI x4, vI x5, vI x6, vI x7, vI x8, vI x9] [vI s0, vR 22031 0] M Q ↔ (Bq 315 de_315 (List.drop 12 bk_315_2) [vR 22 0, vI x1, vI x2, vI x3, vI x4, vI x5, vI x6, vI x7, vI x8, vI x9] [vI x5, vR 22030 0, vI (w32 (24 * x5)), vI s0, vR 22031 0] M Q) from Iff.rfl).trans (by simp only [t315_2_c12])
theorem t315_2 {x1 x2 x3 x4 x5 x6 x7 x8 x9 : Int} {M : Mem} {Q : AR → Mem → Prop} : Tq 315 2 [vR 22 0, vI x1, vI x2, vI x3, vI x4, vI x5, vI x6, vI x7, vI x8, vI x9] [] M Q ↔ (if (5 : Int) ≤ x9 then Tq 315 3 [vR 22 0, vI x1, vI x2, vI x3, vI x4, vI x5, vI x6, vI x7, vI x8, vJ] [] M Q else ((0 : Int) ≤ x5 ∧ x5 < 24) ∧ ((0 : Int) ≤ w32 (w32 (6 * x8) + x9) ∧ w32 (w32 (6 * x8) + x9) < 384) ∧ ((0 : Int) ≤ w32 (w32 (5 * (w32 (w32 (24 * x5) + M 22030 0 x5))) + x9) ∧ w32 (w32 (5 * (w32 (w32 (24 * x5) + M 22030 0 x5))) + x9) < 2880) ∧ bd (mset M 22031 0 (w32 (w32 (5 * (w32 (w32 (24 * x5) + M 22030 0 x5))) + x9)) (M 22024 0 (w32 (w32 (6 * x8) + x9)))) fun M1 => Tq 315 2 [vR 22 0, vI x1, vI x2, vI x3, vI x4, vI x5, vI x6, vI x7, vI x8, vI (w32 (x9 + 1))] [] M1 Q) :=
  (show Tq 315 2 [vR 22 0, vI x1, vI x2, vI x3, vI x4, vI x5, vI x6, vI x7, vI x8, vI x9] [] M Q ↔ (if (5 : Int) ≤ x9 then Tq 315 3 [vR 22 0, vI x1, vI x2, vI x3, vI x4, vI x5, vI x6, vI x7, vI x8, vJ] [] M Q else Bq 315 de_315 (List.drop 6 bk_315_2) [vR 22 0, vI x1, vI x2, vI x3, vI x4, vI x5, vI x6, vI x7, vI x8, vI x9] [vI 5, vR 22031 0] M Q) from Tq_blk (is := bk_315_2) (dd := de_315) rfl rfl).trans (by simp only [t315_2_c6])
/-- EarthOfficeModel makes block at 86 -/
theorem t315_3_c30 {x1 x2 x3 x4 x5 x6 x7 x8 s0 s1 : Int} {M : Mem} {Q : AR → Mem → Prop} : Bq 315 de_315 (List.drop 30 bk_315_3) [vR 22 0, vI x1, vI x2, vI x3, vI x4, vI x5, vI x6, vI x7, vI x8, vJ] [vI s0, vI s1, vR 22024 0] M Q ↔ (((0 : Int) ≤ w32 (w32 (s1 * s0) + 5) ∧ w32 (w32 (s1 * s0) + 5) < 384) ∧ bd (mset M 22024 0 (w32 (w32 (s1 * s0) + 5)) x5) fun M1 => Tq 315 4 [vR 22 0, vI x1, vI x2, vI x3, vI x4, vI x5, vI x6, vI x7, vJ, vJ] [] M1 Q) :=
  Iff.rfl
theorem t315_3_c24 {x1 x2 x3 x4 x5 x6 x7 x8 s0 s1 : Int} {M : Mem} {Q : AR → Mem → Prop} : Bq 315 de_315 (List.drop 24 bk_315_3) [vR 22 0, vI x1, vI x2, vI x3, vI x4, vI x5, vI x6, vI x7, vI x8, vJ] [vI s0, vI s1] M Q ↔ (((0 : Int) ≤ w32 (w32 (6 * x8) + 5) ∧ w32 (w32 (6 * x8) + 5) < 384) ∧ bd (mset M 22024 0 (w32 (w32 (6 * x8) + 5)) x5) fun M1 => Tq 315 4 [vR 22 0, vI x1, vI x2, vI x3, vI x4, vI x5, vI (w32 (s1 + s0)), vI x7, vJ, vJ] [] M1 Q) :=
  (show Bq 315 de_315 (List.drop 24 bk_315_3) [vR 22 0, vI x1, vI x2, vI x3, vI x4, vI x5, vI x6, vI x7, vI x8, vJ] [vI s0, vI s1] M Q ↔ (Bq 315 de_315 (List.drop 30 bk_315_3) [vR 22 0, vI x1, vI x2, vI x3, vI x4, vI x5, vI (w32 (s1 + s0)), vI x7, vI x8, vJ] [vI x8, vI 6, vR 22024 0] M Q) from Iff.rfl).trans (by simp only [t315_3_c30])
theorem t315_3_c18 {x1 x2 x3 x4 x5 x6 x7 x8 s1 s2 : Int} {M : Mem} {Q : AR → Mem → Prop} : Bq 315 de_315 (List.drop 18 bk_315_3) [vR 22 0, vI x1, vI x2, vI x3, vI x4, vI x5, vI x6, vI x7, vI x8, vJ] [vR 22 0, vI s1, vI s2] M Q ↔ (((0 : Int) ≤ x8 ∧ x8 < 64) ∧ ((0 : Int) ≤ w32 (w32 (6 * x8) + 5) ∧ w32 (w32 (6 * x8) + 5) < 384) ∧ bd (mset M 22024 0 (w32 (w32 (6 * x8) + 5)) x5) fun M1 => Tq 315 4 [vR 22 0, vI x1, vI x2, vI x3, vI x4, vI x5, vI (w32 (s2 + w32 (s1 * (w32 (M 22036 0 x8 - x4))))), vI x7, vJ, vJ] [] M1 Q) :=
  (show Bq 315 de_315 (List.drop 18 bk_315_3) [vR 22 0, vI x1, vI x2, vI x3, vI x4, vI x5, vI x6, vI x7, vI x8, vJ] [vR 22 0, vI s1, vI s2] M Q ↔ (((0 : Int) ≤ x8 ∧ x8 < 64) ∧ Bq 315 de_315 (List.drop 24 bk_315_3) [vR 22 0, vI x1, vI x2, vI x3, vI x4, vI x5, vI x6, vI x7, vI x8, vJ] [vI (w32 (s1 * (w32 (M 22036 0 x8 - x4)))), vI s2] M Q) from Iff.rfl).trans (by simp only [t315_3_c24])
theorem t315_3_c12 {x1 x2 x3 x4 x5 x6 x7 x8 s0 s2 : Int} {M : Mem} {Q : AR → Mem → Prop} : Bq 315 de_315 (List.drop 12 bk_315_3) [vR 22 0, vI x1, vI x2, vI x3, vI x4, vI x5, vI x6, vI x7, vI x8, vJ] [vI s0, vR 22024 0, vI s2] M Q ↔ (((0 : Int) ≤ w32 (w32 (s0 * x8) + 3) ∧ w32 (w32 (s0 * x8) + 3) < 384) ∧ ((0 : Int) ≤ x8 ∧ x8 < 64) ∧ ((0 : Int) ≤ w32 (w32 (6 * x8) + 5) ∧ w32 (w32 (6 * x8) + 5) < 384) ∧ bd (mset M 22024 0 (w32 (w32 (6 * x8) + 5)) x5) fun M1 => Tq 315 4 [vR 22 0, vI x1, vI x2, vI x3, vI x4, vI x5, vI (w32 (s2 + w32 ((M 22024 0 (w32 (w32 (s0 * x8) + 3))) * (w32 (M 22036 0 x8 - x4))))), vI x7, vJ, vJ] [] M1 Q) :=
  (show Bq 315 de_315 (List.drop 12 bk_315_3) [vR 22 0, vI x1, vI x2, vI x3, vI x4, vI x5, vI x6, vI x7, vI x8, vJ] [vI s0, vR 22024 0, vI s2] M Q ↔ (((0 : Int) ≤ w32 (w32 (s0 * x8) + 3) ∧ w32 (w32 (s0 * x8) + 3) < 384) ∧ Bq 315 de_315 (List.drop 18 bk_315_3) [vR 22 0, vI x1, vI x2, vI x3, vI x4, vI x5, vI x6, vI x7, vI x8, vJ] [vR 22 0, vI (M 22024 0 (w32 (w32 (s0 * x8) + 3))), vI s2] M Q) from Iff.rfl).trans (by simp only [t315_3_c18])
theorem t315_3_c6 {x1 x2 x3 x4 x5 x6 x7 x8 s0 s1 s2 : Int} {M : Mem} {Q : AR → Mem → Prop} : Bq 315 de_315 (List.drop 6 bk_315_3) [vR 22 0, vI x1, vI x2, vI x3, vI x4, vI x5, vI x6, vI x7, vI x8, vJ] [vI s0, vI s1, vI s2, vR 22030 0] M Q ↔ (((0 : Int) ≤ s2 ∧ s2 < 24) ∧ bd (mset M 22030 0 s2 (w32 (s1 + s0))) fun M1 => ((0 : Int) ≤ w32 (w32 (6 * x8) + 3) ∧ w32 (w32 (6 * x8) + 3) < 384) ∧ ((0 : Int) ≤ x8 ∧ x8 < 64) ∧ ((0 : Int) ≤ w32 (w32 (6 * x8) + 5) ∧ w32 (w32 (6 * x8) + 5) < 384) ∧ bd (mset M1 22024 0 (w32 (w32 (6 * x8) + 5)) x5) fun M2 => Tq 315 4 [vR 22 0, vI x1, vI x2, vI x3, vI x4, vI x5, vI (w32 (x6 + w32 ((M1 22024 0 (w32 (w32 (6 * x8) + 3))) * (w32 (M1 22036 0 x8 - x4))))), vI x7, vJ, vJ] [] M2 Q) :=
  (show Bq 315 de_315 (List.drop 6 bk_315_3) [vR 22 0, vI x1, vI x2, vI x3, vI x4, vI x5, vI x6, vI x7, vI x8, vJ] [vI s0, vI s1, vI s2, vR 22030 0] M Q ↔ (((0 : Int) ≤ s2 ∧ s2 < 24) ∧ bd (mset M 22030 0 s2 (w32 (s1 + s0))) fun M1 => Bq 315 de_315 (List.drop 12 bk_315_3) [vR 22 0, vI x1, vI x2, vI x3, vI x4, vI x5, vI x6, vI x7, vI x8, vJ] [vI 6, vR 22024 0, vI x6] M1 Q) from Iff.rfl).trans (by simp only [t315_3_c12])
theorem t315_3 {x1 x2 x3 x4 x5 x6 x7 x8 : Int} {M : Mem} {Q : AR → Mem → Prop} : Tq 315 3 [vR 22 0, vI x1, vI x2, vI x3, vI x4, vI x5, vI x6, vI x7, vI x8, vJ] [] M Q ↔ (((0 : Int) ≤ x5 ∧ x5 < 24) ∧ ((0 : Int) ≤ x5 ∧ x5 < 24) ∧ bd (mset M 22030 0 x5 (w32 (M 22030 0 x5 + 1))) fun M1 => ((0 : Int) ≤ w32 (w32 (6 * x8) + 3) ∧ w32 (w32 (6 * x8) + 3) < 384) ∧ ((0 : Int) ≤ x8 ∧ x8 < 64) ∧ ((0 : Int) ≤ w32 (w32 (6 * x8) + 5) ∧ w32 (w32 (6 * x8) + 5) < 384) ∧ bd (mset M1 22024 0 (w32 (w32 (6 * x8) + 5)) x5) fun M2 => Tq 315 4 [vR 22 0, vI x1, vI x2, vI x3, vI x4, vI x5, vI (w32 (x6 + w32 ((M1 22024 0 (w32 (w32 (6 * x8) + 3))) * (w32 (M1 22036 0 x8 - x4))))), vI x7, vJ, vJ] [] M2 Q) :=
  (show Tq 315 3 [vR 22 0, vI x1, vI x2, vI x3, vI x4, vI x5, vI x6, vI x7, vI x8, vJ] [] M Q ↔ (((0 : Int) ≤ x5 ∧ x5 < 24) ∧ Bq 315 de_315 (List.drop 6 bk_315_3) [vR 22 0, vI x1, vI x2, vI x3, vI x4, vI x5, vI x6, vI x7, vI x8, vJ] [vI 1, vI (M 22030 0 x5), vI x5, vR 22030 0] M Q) from Tq_blk (is := bk_315_3) (dd := de_315) rfl rfl).trans (by simp only [t315_3_c6])
/-- EarthOfficeModel makes block at 139 -/
theorem t315_4 {x1 x2 x3 x4 x5 x6 x7 : Int} {M : Mem} {Q : AR → Mem → Prop} : Tq 315 4 [vR 22 0, vI x1, vI x2, vI x3, vI x4, vI x5, vI x6, vI x7, vJ, vJ] [] M Q ↔ (Tq 315 1 [vR 22 0, vI x1, vI x2, vI x3, vI x4, vI x5, vI x6, vI (w32 (x7 + 1)), vJ, vJ] [] M Q) :=
  Tq_blk (is := bk_315_4) (dd := de_315) rfl rfl
/-- EarthOfficeModel makes block at 145 -/
theorem t315_5_c10 {x1 x2 x3 x4 x5 x6 : Int} {M : Mem} {Q : AR → Mem → Prop} : Bq 315 de_315 (List.drop 10 bk_315_5) [vR 22 0, vI x1, vI x2, vI x3, vI x4, vI x5, vI x6, vJ, vJ, vJ] [] M Q ↔ (Tq 209 0 [vR 22 0, vI x5, vJ] [] M (kV fun M1 => Q (.inl none) M1)) :=
  Iff.rfl
theorem t315_5_c6 {x1 x2 x3 x4 x5 x6 s0 s1 s2 s3 s4 : Int} {M : Mem} {Q : AR → Mem → Prop} : Bq 315 de_315 (List.drop 6 bk_315_5) [vR 22 0, vI x1, vI x2, vI x3, vI x4, vI x5, vI x6, vJ, vJ, vJ] [vI s0, vI s1, vI s2, vI s3, vI s4, vR 22 0] M Q ↔ (Tq 208 0 [vR 22 0, vI s4, vI s3, vI s2, vI s1, vI s0, vI x4, vI x6, vI (-99999999), vJ] [] M (kV fun M1 => Tq 209 0 [vR 22 0, vI x5, vJ] [] M1 (kV fun M2 => Q (.inl none) M2))) :=
  (show Bq 315 de_315 (List.drop 6 bk_315_5) [vR 22 0, vI x1, vI x2, vI x3, vI x4, vI x5, vI x6, vJ, vJ, vJ] [vI s0, vI s1, vI s2, vI s3, vI s4, vR 22 0] M Q ↔ (Tq 208 0 [vR 22 0, vI s4, vI s3, vI s2, vI s1, vI s0, vI x4, vI x6, vI (-99999999), vJ] [] M (kV fun M1 => Bq 315 de_315 (List.drop 10 bk_315_5) [vR 22 0, vI x1, vI x2, vI x3, vI x4, vI x5, vI x6, vJ, vJ, vJ] [] M1 Q)) from Iff.rfl).trans (by simp only [t315_5_c10])
theorem t315_5 {x1 x2 x3 x4 x5 x6 : Int} {M : Mem} {Q : AR → Mem → Prop} : Tq 315 5 [vR 22 0, vI x1, vI x2, vI x3, vI x4, vI x5, vI x6, vJ, vJ, vJ] [] M Q ↔ (Tq 208 0 [vR 22 0, vI x5, vI 0, vI x1, vI x2, vI x3, vI x4, vI x6, vI (-99999999), vJ] [] M (kV fun M1 => Tq 209 0 [vR 22 0, vI x5, vJ] [] M1 (kV fun M2 => Q (.inl none) M2))) :=
  (show Tq 315 5 [vR 22 0, vI x1, vI x2, vI x3, vI x4, vI x5, vI x6, vJ, vJ, vJ] [] M Q ↔ (Bq 315 de_315 (List.drop 6 bk_315_5) [vR 22 0, vI x1, vI x2, vI x3, vI x4, vI x5, vI x6, vJ, vJ, vJ] [vI x3, vI x2, vI x1, vI 0, vI x5, vR 22 0] M Q) from Tq_blk (is := bk_315_5) (dd := de_315) rfl rfl).trans (by simp only [t315_5_c6])
/-- EarthOfficeModel locate block at 0 -/
theorem t316_0 {x1 : Int} {M : Mem} {Q : AR → Mem → Prop} : Tq 316 0 [vR 22 0, vI x1, vJ, vJ, vJ, vJ, vJ] [] M Q ↔ (Tq 213 0 [vR 22 0, vI x1] [] M (kI fun v1 M1 => if ¬ v1 = 0 then Tq 316 1 [vR 22 0, vI x1, vJ, vJ, vJ, vJ, vJ] [] M1 Q else Q (.inl (some (vI (-1)))) M1)) :=
  Tq_blk (is := bk_316_0) (dd := de_316) rfl rfl
/-- EarthOfficeModel locate block at 10 -/
theorem t316_1 {x1 : Int} {M : Mem} {Q : AR → Mem → Prop} : Tq 316 1 [vR 22 0, vI x1, vJ, vJ, vJ, vJ, vJ] [] M Q ↔ (((0 : Int) ≤ x1 ∧ x1 < 24) ∧ if ¬ M 22035 0 x1 = (-99999999) then Tq 316 2 [vJ, vJ, vJ, vJ, vJ, vJ, vJ] [] M Q else ((0 : Int) ≤ x1 ∧ x1 < 24) ∧ if (3 : Int) ≤ M 22030 0 x1 then Tq 316 3 [vR 22 0, vI x1, vJ, vJ, vJ, vJ, vJ] [] M Q else Tq 316 2 [vJ, vJ, vJ, vJ, vJ, vJ, vJ] [] M Q) :=
  Tq_blk (is := bk_316_1) (dd := de_316) rfl rfl
/-- EarthOfficeModel locate block at 31 -/
theorem t316_2 {M : Mem} {Q : AR → Mem → Prop} : Tq 316 2 [vJ, vJ, vJ, vJ, vJ, vJ, vJ] [] M Q ↔ (Q (.inl (some (vI (-2)))) M) :=
  Tq_blk (is := bk_316_2) (dd := de_316) rfl rfl
/-- EarthOfficeModel locate block at 34 -/
theorem t316_3 {x1 : Int} {M : Mem} {Q : AR → Mem → Prop} : Tq 316 3 [vR 22 0, vI x1, vJ, vJ, vJ, vJ, vJ] [] M Q ↔ (((0 : Int) ≤ x1 ∧ x1 < 24) ∧ if M 22032 0 x1 = (16 : Int) then Tq 316 4 [vJ, vJ, vJ, vJ, vJ, vJ, vJ] [] M Q else Tq 198 0 [vR 22 0, vI 33] [] M (kI fun v1 M1 => if ¬ v1 = 0 then Tq 316 5 [vR 22 0, vI x1, vJ, vJ, vJ, vJ, vJ] [] M1 Q else Tq 316 4 [vJ, vJ, vJ, vJ, vJ, vJ, vJ] [] M1 Q)) :=
  Tq_blk (is := bk_316_3) (dd := de_316) rfl rfl
/-- EarthOfficeModel locate block at 54 -/
theorem t316_4 {M : Mem} {Q : AR → Mem → Prop} : Tq 316 4 [vJ, vJ, vJ, vJ, vJ, vJ, vJ] [] M Q ↔ (Q (.inl (some (vI (-3)))) M) :=
  Tq_blk (is := bk_316_4) (dd := de_316) rfl rfl
/-- EarthOfficeModel locate block at 57 -/
theorem t316_5 {x1 : Int} {M : Mem} {Q : AR → Mem → Prop} : Tq 316 5 [vR 22 0, vI x1, vJ, vJ, vJ, vJ, vJ] [] M Q ↔ (Tq 316 6 [vR 22 0, vI x1, vI 2147483647, vI 0, vI 0, vI 0, vJ] [] M Q) :=
  Tq_blk (is := bk_316_5) (dd := de_316) rfl rfl
/-- EarthOfficeModel locate block at 69 -/
theorem t316_6 {x1 x2 x3 x4 x5 : Int} {M : Mem} {Q : AR → Mem → Prop} : Tq 316 6 [vR 22 0, vI x1, vI x2, vI x3, vI x4, vI x5, vJ] [] M Q ↔ (if (65536 : Int) ≤ x5 then Tq 316 8 [vR 22 0, vI x1, vI x2, vI x3, vI x4, vJ, vJ] [] M Q else (¬ (64 : Int) = 0) ∧ (¬ (64 : Int) = 0) ∧ (¬ (64 : Int) = 0) ∧ (¬ (4096 : Int) = 0) ∧ Tq 317 0 [vR 22 0, vI x1, vI (rem32 x5 64), vI (rem32 (div32 x5 64) 64), vI (div32 x5 4096), vJ, vJ, vJ, vJ, vJ, vJ, vJ] [] M (kI fun v1 M1 => if x2 ≤ v1 then Tq 316 7 [vR 22 0, vI x1, vI x2, vI x3, vI x4, vI x5, vJ] [] M1 Q else Tq 316 7 [vR 22 0, vI x1, vI v1, vI x5, vI (M1 22 0 41), vI x5, vJ] [] M1 Q)) :=
  Tq_blk (is := bk_316_6) (dd := de_316) rfl rfl
/-- EarthOfficeModel locate block at 121 -/
theorem t316_7 {x1 x2 x3 x4 x5 : Int} {M : Mem} {Q : AR → Mem → Prop} : Tq 316 7 [vR 22 0, vI x1, vI x2, vI x3, vI x4, vI x5, vJ] [] M Q ↔ (Tq 316 6 [vR 22 0, vI x1, vI x2, vI x3, vI x4, vI (w32 (x5 + 1)), vJ] [] M Q) :=
  Tq_blk (is := bk_316_7) (dd := de_316) rfl rfl
/-- EarthOfficeModel locate block at 127 -/
theorem t316_8 {x1 x2 x3 x4 : Int} {M : Mem} {Q : AR → Mem → Prop} : Tq 316 8 [vR 22 0, vI x1, vI x2, vI x3, vI x4, vJ, vJ] [] M Q ↔ ((¬ (64 : Int) = 0) ∧ (¬ (64 : Int) = 0) ∧ (¬ (64 : Int) = 0) ∧ (¬ (4096 : Int) = 0) ∧ Tq 210 0 [vR 22 0, vI x1, vI 6] [] M (kI fun v1 M1 => Tq 208 0 [vR 22 0, vI x1, vI 1, vI (rem32 x3 64), vI (rem32 (div32 x3 64) 64), vI (div32 x3 4096), vI x4, vI x2, vI v1, vJ] [] M1 (kV fun M2 => Tq 211 0 [vR 22 0, vI x1, vJ] [] M2 (kV fun M3 => ((0 : Int) ≤ x1 ∧ x1 < 24) ∧ Q (.inl (some (vI (w32 (M3 22032 0 x1 - 1))))) M3)))) :=
  Tq_blk (is := bk_316_8) (dd := de_316) rfl rfl
/-- EarthOfficeModel misfitAt block at 0 -/
theorem t317_0 {x1 x2 x3 x4 : Int} {M : Mem} {Q : AR → Mem → Prop} : Tq 317 0 [vR 22 0, vI x1, vI x2, vI x3, vI x4, vJ, vJ, vJ, vJ, vJ, vJ, vJ] [] M Q ↔ (((0 : Int) ≤ x1 ∧ x1 < 24) ∧ Tq 317 1 [vR 22 0, vI x1, vI x2, vI x3, vI x4, vI 0, vI (M 22030 0 x1), vI 0, vJ, vJ, vJ, vJ] [] M Q) :=
  Tq_blk (is := bk_317_0) (dd := de_317) rfl rfl
/-- EarthOfficeModel misfitAt block at 14 -/
theorem t317_1_c43 {x1 x2 x3 x4 x5 x6 x7 x8 x9 s0 s1 : Int} {M : Mem} {Q : AR → Mem → Prop} : Bq 317 de_317 (List.drop 43 bk_317_1) [vR 22 0, vI x1, vI x2, vI x3, vI x4, vI x5, vI x6, vI x7, vI x8, vI x9, vJ, vJ] [vI s0, vI s1] M Q ↔ (Tq 317 2 [vR 22 0, vI x1, vI x2, vI x3, vI x4, vI x5, vI x6, vI x7, vI x8, vJ, vI (w32 (s1 - s0)), vI x7] [] M Q) :=
  Iff.rfl
theorem t317_1_c41 {x1 x2 x3 x4 x5 x6 x7 x8 x9 s0 s1 s3 : Int} {M : Mem} {Q : AR → Mem → Prop} : Bq 317 de_317 (List.drop 41 bk_317_1) [vR 22 0, vI x1, vI x2, vI x3, vI x4, vI x5, vI x6, vI x7, vI x8, vI x9, vJ, vJ] [vI s0, vI s1, vR 22 0, vI s3] M Q ↔ (Tq 262 0 [vR 22 0, vI s1, vI s0, vI x4] [] M (kI fun v1 M1 => Tq 317 2 [vR 22 0, vI x1, vI x2, vI x3, vI x4, vI x5, vI x6, vI x7, vI x8, vJ, vI (w32 (s3 - v1)), vI x7] [] M1 Q)) :=
  (show Bq 317 de_317 (List.drop 41 bk_317_1) [vR 22 0, vI x1, vI x2, vI x3, vI x4, vI x5, vI x6, vI x7, vI x8, vI x9, vJ, vJ] [vI s0, vI s1, vR 22 0, vI s3] M Q ↔ (Tq 262 0 [vR 22 0, vI s1, vI s0, vI x4] [] M (kI fun v1 M1 => Bq 317 de_317 (List.drop 43 bk_317_1) [vR 22 0, vI x1, vI x2, vI x3, vI x4, vI x5, vI x6, vI x7, vI x8, vI x9, vJ, vJ] [vI v1, vI s3] M1 Q)) from Iff.rfl).trans (by simp only [t317_1_c43])
theorem t317_1_c36 {x1 x2 x3 x4 x5 x6 x7 x8 x9 s0 s1 s2 s4 s6 : Int} {M : Mem} {Q : AR → Mem → Prop} : Bq 317 de_317 (List.drop 36 bk_317_1) [vR 22 0, vI x1, vI x2, vI x3, vI x4, vI x5, vI x6, vI x7, vI x8, vI x9, vJ, vJ] [vI s0, vI s1, vI s2, vR 22 0, vI s4, vR 22 0, vI s6] M Q ↔ (((0 : Int) ≤ x9 ∧ x9 < 12) ∧ Tq 247 0 [vR 22 0, vI s2, vI s1, vI s0, vI (M 22011 0 x9)] [] M (kI fun v1 M1 => Tq 262 0 [vR 22 0, vI s4, vI v1, vI x4] [] M1 (kI fun v2 M2 => Tq 317 2 [vR 22 0, vI x1, vI x2, vI x3, vI x4, vI x5, vI x6, vI x7, vI x8, vJ, vI (w32 (s6 - v2)), vI x7] [] M2 Q))) :=
  (show Bq 317 de_317 (List.drop 36 bk_317_1) [vR 22 0, vI x1, vI x2, vI x3, vI x4, vI x5, vI x6, vI x7, vI x8, vI x9, vJ, vJ] [vI s0, vI s1, vI s2, vR 22 0, vI s4, vR 22 0, vI s6] M Q ↔ (((0 : Int) ≤ x9 ∧ x9 < 12) ∧ Tq 247 0 [vR 22 0, vI s2, vI s1, vI s0, vI (M 22011 0 x9)] [] M (kI fun v1 M1 => Bq 317 de_317 (List.drop 41 bk_317_1) [vR 22 0, vI x1, vI x2, vI x3, vI x4, vI x5, vI x6, vI x7, vI x8, vI x9, vJ, vJ] [vI v1, vI s4, vR 22 0, vI s6] M1 Q)) from Iff.rfl).trans (by simp only [t317_1_c41])
theorem t317_1_c30 {x1 x2 x3 x4 x5 x6 x7 x8 x9 s1 s3 : Int} {M : Mem} {Q : AR → Mem → Prop} : Bq 317 de_317 (List.drop 30 bk_317_1) [vR 22 0, vI x1, vI x2, vI x3, vI x4, vI x5, vI x6, vI x7, vI x8, vI x9, vJ, vJ] [vR 22 0, vI s1, vR 22 0, vI s3] M Q ↔ (((0 : Int) ≤ x9 ∧ x9 < 12) ∧ ((0 : Int) ≤ x9 ∧ x9 < 12) ∧ Tq 247 0 [vR 22 0, vI x2, vI x3, vI (M 22010 0 x9), vI (M 22011 0 x9)] [] M (kI fun v1 M1 => Tq 262 0 [vR 22 0, vI s1, vI v1, vI x4] [] M1 (kI fun v2 M2 => Tq 317 2 [vR 22 0, vI x1, vI x2, vI x3, vI x4, vI x5, vI x6, vI x7, vI x8, vJ, vI (w32 (s3 - v2)), vI x7] [] M2 Q))) :=
  (show Bq 317 de_317 (List.drop 30 bk_317_1) [vR 22 0, vI x1, vI x2, vI x3, vI x4, vI x5, vI x6, vI x7, vI x8, vI x9, vJ, vJ] [vR 22 0, vI s1, vR 22 0, vI s3] M Q ↔ (((0 : Int) ≤ x9 ∧ x9 < 12) ∧ Bq 317 de_317 (List.drop 36 bk_317_1) [vR 22 0, vI x1, vI x2, vI x3, vI x4, vI x5, vI x6, vI x7, vI x8, vI x9, vJ, vJ] [vI (M 22010 0 x9), vI x3, vI x2, vR 22 0, vI s1, vR 22 0, vI s3] M Q) from Iff.rfl).trans (by simp only [t317_1_c36])
theorem t317_1_c24 {x1 x2 x3 x4 x5 x6 x7 x8 x9 s2 : Int} {M : Mem} {Q : AR → Mem → Prop} : Bq 317 de_317 (List.drop 24 bk_317_1) [vR 22 0, vI x1, vI x2, vI x3, vI x4, vI x5, vI x6, vI x7, vI x8, vI x9, vJ, vJ] [vR 22 0, vR 22 0, vI s2] M Q ↔ (((0 : Int) ≤ w32 (x8 + 2) ∧ w32 (x8 + 2) < 2880) ∧ ((0 : Int) ≤ x9 ∧ x9 < 12) ∧ ((0 : Int) ≤ x9 ∧ x9 < 12) ∧ Tq 247 0 [vR 22 0, vI x2, vI x3, vI (M 22010 0 x9), vI (M 22011 0 x9)] [] M (kI fun v1 M1 => Tq 262 0 [vR 22 0, vI (M 22031 0 (w32 (x8 + 2))), vI v1, vI x4] [] M1 (kI fun v2 M2 => Tq 317 2 [vR 22 0, vI x1, vI x2, vI x3, vI x4, vI x5, vI x6, vI x7, vI x8, vJ, vI (w32 (s2 - v2)), vI x7] [] M2 Q))) :=
  (show Bq 317 de_317 (List.drop 24 bk_317_1) [vR 22 0, vI x1, vI x2, vI x3, vI x4, vI x5, vI x6, vI x7, vI x8, vI x9, vJ, vJ] [vR 22 0, vR 22 0, vI s2] M Q ↔ (((0 : Int) ≤ w32 (x8 + 2) ∧ w32 (x8 + 2) < 2880) ∧ Bq 317 de_317 (List.drop 30 bk_317_1) [vR 22 0, vI x1, vI x2, vI x3, vI x4, vI x5, vI x6, vI x7, vI x8, vI x9, vJ, vJ] [vR 22 0, vI (M 22031 0 (w32 (x8 + 2))), vR 22 0, vI s2] M Q) from Iff.rfl).trans (by simp only [t317_1_c30])
theorem t317_1_c18 {x1 x2 x3 x4 x5 x6 x7 x8 x9 : Int} {M : Mem} {Q : AR → Mem → Prop} : Bq 317 de_317 (List.drop 18 bk_317_1) [vR 22 0, vI x1, vI x2, vI x3, vI x4, vI x5, vI x6, vI x7, vI x8, vI x9, vJ, vJ] [vR 22031 0] M Q ↔ (((0 : Int) ≤ w32 (x8 + 1) ∧ w32 (x8 + 1) < 2880) ∧ ((0 : Int) ≤ w32 (x8 + 2) ∧ w32 (x8 + 2) < 2880) ∧ ((0 : Int) ≤ x9 ∧ x9 < 12) ∧ ((0 : Int) ≤ x9 ∧ x9 < 12) ∧ Tq 247 0 [vR 22 0, vI x2, vI x3, vI (M 22010 0 x9), vI (M 22011 0 x9)] [] M (kI fun v1 M1 => Tq 262 0 [vR 22 0, vI (M 22031 0 (w32 (x8 + 2))), vI v1, vI x4] [] M1 (kI fun v2 M2 => Tq 317 2 [vR 22 0, vI x1, vI x2, vI x3, vI x4, vI x5, vI x6, vI x7, vI x8, vJ, vI (w32 (M 22031 0 (w32 (x8 + 1)) - v2)), vI x7] [] M2 Q))) :=
  (show Bq 317 de_317 (List.drop 18 bk_317_1) [vR 22 0, vI x1, vI x2, vI x3, vI x4, vI x5, vI x6, vI x7, vI x8, vI x9, vJ, vJ] [vR 22031 0] M Q ↔ (((0 : Int) ≤ w32 (x8 + 1) ∧ w32 (x8 + 1) < 2880) ∧ Bq 317 de_317 (List.drop 24 bk_317_1) [vR 22 0, vI x1, vI x2, vI x3, vI x4, vI x5, vI x6, vI x7, vI x8, vI x9, vJ, vJ] [vR 22 0, vR 22 0, vI (M 22031 0 (w32 (x8 + 1)))] M Q) from Iff.rfl).trans (by simp only [t317_1_c24])
theorem t317_1_c12 {x1 x2 x3 x4 x5 x6 x7 x8 : Int} {M : Mem} {Q : AR → Mem → Prop} : Bq 317 de_317 (List.drop 12 bk_317_1) [vR 22 0, vI x1, vI x2, vI x3, vI x4, vI x5, vI x6, vI x7, vI x8, vJ, vJ, vJ] [vR 22 0] M Q ↔ (((0 : Int) ≤ x8 ∧ x8 < 2880) ∧ ((0 : Int) ≤ w32 (x8 + 1) ∧ w32 (x8 + 1) < 2880) ∧ ((0 : Int) ≤ w32 (x8 + 2) ∧ w32 (x8 + 2) < 2880) ∧ ((0 : Int) ≤ M 22031 0 x8 ∧ M 22031 0 x8 < 12) ∧ ((0 : Int) ≤ M 22031 0 x8 ∧ M 22031 0 x8 < 12) ∧ Tq 247 0 [vR 22 0, vI x2, vI x3, vI (M 22010 0 (M 22031 0 x8)), vI (M 22011 0 (M 22031 0 x8))] [] M (kI fun v1 M1 => Tq 262 0 [vR 22 0, vI (M 22031 0 (w32 (x8 + 2))), vI v1, vI x4] [] M1 (kI fun v2 M2 => Tq 317 2 [vR 22 0, vI x1, vI x2, vI x3, vI x4, vI x5, vI x6, vI x7, vI x8, vJ, vI (w32 (M 22031 0 (w32 (x8 + 1)) - v2)), vI x7] [] M2 Q))) :=
  (show Bq 317 de_317 (List.drop 12 bk_317_1) [vR 22 0, vI x1, vI x2, vI x3, vI x4, vI x5, vI x6, vI x7, vI x8, vJ, vJ, vJ] [vR 22 0] M Q ↔ (((0 : Int) ≤ x8 ∧ x8 < 2880) ∧ Bq 317 de_317 (List.drop 18 bk_317_1) [vR 22 0, vI x1, vI x2, vI x3, vI x4, vI x5, vI x6, vI x7, vI x8, vI (M 22031 0 x8), vJ, vJ] [vR 22031 0] M Q) from Iff.rfl).trans (by simp only [t317_1_c18])
theorem t317_1_c6 {x1 x2 x3 x4 x5 x6 x7 s0 s1 s2 : Int} {M : Mem} {Q : AR → Mem → Prop} : Bq 317 de_317 (List.drop 6 bk_317_1) [vR 22 0, vI x1, vI x2, vI x3, vI x4, vI x5, vI x6, vI x7, vJ, vJ, vJ, vJ] [vI s0, vI s1, vI s2] M Q ↔ (((0 : Int) ≤ w32 (s2 * (w32 (w32 (s1 * s0) + x7))) ∧ w32 (s2 * (w32 (w32 (s1 * s0) + x7))) < 2880) ∧ ((0 : Int) ≤ w32 (w32 (s2 * (w32 (w32 (s1 * s0) + x7))) + 1) ∧ w32 (w32 (s2 * (w32 (w32 (s1 * s0) + x7))) + 1) < 2880) ∧ ((0 : Int) ≤ w32 (w32 (s2 * (w32 (w32 (s1 * s0) + x7))) + 2) ∧ w32 (w32 (s2 * (w32 (w32 (s1 * s0) + x7))) + 2) < 2880) ∧ ((0 : Int) ≤ M 22031 0 (w32 (s2 * (w32 (w32 (s1 * s0) + x7)))) ∧ M 22031 0 (w32 (s2 * (w32 (w32 (s1 * s0) + x7)))) < 12) ∧ ((0 : Int) ≤ M 22031 0 (w32 (s2 * (w32 (w32 (s1 * s0) + x7)))) ∧ M 22031 0 (w32 (s2 * (w32 (w32 (s1 * s0) + x7)))) < 12) ∧ Tq 247 0 [vR 22 0, vI x2, vI x3, vI (M 22010 0 (M 22031 0 (w32 (s2 * (w32 (w32 (s1 * s0) + x7)))))), vI (M 22011 0 (M 22031 0 (w32 (s2 * (w32 (w32 (s1 * s0) + x7))))))] [] M (kI fun v1 M1 => Tq 262 0 [vR 22 0, vI (M 22031 0 (w32 (w32 (s2 * (w32 (w32 (s1 * s0) + x7))) + 2))), vI v1, vI x4] [] M1 (kI fun v2 M2 => Tq 317 2 [vR 22 0, vI x1, vI x2, vI x3, vI x4, vI x5, vI x6, vI x7, vI (w32 (s2 * (w32 (w32 (s1 * s0) + x7)))), vJ, vI (w32 (M 22031 0 (w32 (w32 (s2 * (w32 (w32 (s1 * s0) + x7))) + 1)) - v2)), vI x7] [] M2 Q))) :=
  (show Bq 317 de_317 (List.drop 6 bk_317_1) [vR 22 0, vI x1, vI x2, vI x3, vI x4, vI x5, vI x6, vI x7, vJ, vJ, vJ, vJ] [vI s0, vI s1, vI s2] M Q ↔ (Bq 317 de_317 (List.drop 12 bk_317_1) [vR 22 0, vI x1, vI x2, vI x3, vI x4, vI x5, vI x6, vI x7, vI (w32 (s2 * (w32 (w32 (s1 * s0) + x7)))), vJ, vJ, vJ] [vR 22 0] M Q) from Iff.rfl).trans (by simp only [t317_1_c12])
theorem t317_1 {x1 x2 x3 x4 x5 x6 x7 : Int} {M : Mem} {Q : AR → Mem → Prop} : Tq 317 1 [vR 22 0, vI x1, vI x2, vI x3, vI x4, vI x5, vI x6, vI x7, vJ, vJ, vJ, vJ] [] M Q ↔ (if x6 ≤ x7 then Tq 317 4 [vR 22 0, vJ, vJ, vJ, vJ, vI x5, vI x6, vJ, vJ, vJ, vJ, vJ] [] M Q else ((0 : Int) ≤ w32 (5 * (w32 (w32 (24 * x1) + x7))) ∧ w32 (5 * (w32 (w32 (24 * x1) + x7))) < 2880) ∧ ((0 : Int) ≤ w32 (w32 (5 * (w32 (w32 (24 * x1) + x7))) + 1) ∧ w32 (w32 (5 * (w32 (w32 (24 * x1) + x7))) + 1) < 2880) ∧ ((0 : Int) ≤ w32 (w32 (5 * (w32 (w32 (24 * x1) + x7))) + 2) ∧ w32 (w32 (5 * (w32 (w32 (24 * x1) + x7))) + 2) < 2880) ∧ ((0 : Int) ≤ M 22031 0 (w32 (5 * (w32 (w32 (24 * x1) + x7)))) ∧ M 22031 0 (w32 (5 * (w32 (w32 (24 * x1) + x7)))) < 12) ∧ ((0 : Int) ≤ M 22031 0 (w32 (5 * (w32 (w32 (24 * x1) + x7)))) ∧ M 22031 0 (w32 (5 * (w32 (w32 (24 * x1) + x7)))) < 12) ∧ Tq 247 0 [vR 22 0, vI x2, vI x3, vI (M 22010 0 (M 22031 0 (w32 (5 * (w32 (w32 (24 * x1) + x7)))))), vI (M 22011 0 (M 22031 0 (w32 (5 * (w32 (w32 (24 * x1) + x7))))))] [] M (kI fun v1 M1 => Tq 262 0 [vR 22 0, vI (M 22031 0 (w32 (w32 (5 * (w32 (w32 (24 * x1) + x7))) + 2))), vI v1, vI x4] [] M1 (kI fun v2 M2 => Tq 317 2 [vR 22 0, vI x1, vI x2, vI x3, vI x4, vI x5, vI x6, vI x7, vI (w32 (5 * (w32 (w32 (24 * x1) + x7)))), vJ, vI (w32 (M 22031 0 (w32 (w32 (5 * (w32 (w32 (24 * x1) + x7))) + 1)) - v2)), vI x7] [] M2 Q))) :=
  (show Tq 317 1 [vR 22 0, vI x1, vI x2, vI x3, vI x4, vI x5, vI x6, vI x7, vJ, vJ, vJ, vJ] [] M Q ↔ (if x6 ≤ x7 then Tq 317 4 [vR 22 0, vJ, vJ, vJ, vJ, vI x5, vI x6, vJ, vJ, vJ, vJ, vJ] [] M Q else Bq 317 de_317 (List.drop 6 bk_317_1) [vR 22 0, vI x1, vI x2, vI x3, vI x4, vI x5, vI x6, vI x7, vJ, vJ, vJ, vJ] [vI x1, vI 24, vI 5] M Q) from Tq_blk (is := bk_317_1) (dd := de_317) rfl rfl).trans (by simp only [t317_1_c6])
/-- EarthOfficeModel misfitAt block at 92 -/
theorem t317_2_c24 {x1 x2 x3 x4 x5 x6 x7 x8 x10 x11 s1 : Int} {M : Mem} {Q : AR → Mem → Prop} : Bq 317 de_317 (List.drop 24 bk_317_2) [vR 22 0, vI x1, vI x2, vI x3, vI x4, vI x5, vI x6, vI x7, vI x8, vJ, vI x10, vI x11] [vR 22 0, vI s1, vR 22040 0] M Q ↔ (((0 : Int) ≤ w32 (x11 - 1) ∧ w32 (x11 - 1) < 24) ∧ ((0 : Int) ≤ s1 ∧ s1 < 24) ∧ bd (mset M 22040 0 s1 (M 22040 0 (w32 (x11 - 1)))) fun M1 => Tq 317 2 [vR 22 0, vI x1, vI x2, vI x3, vI x4, vI x5, vI x6, vI x7, vI x8, vJ, vI x10, vI (w32 (x11 + (-1)))] [] M1 Q) :=
  Iff.rfl
theorem t317_2_c18 {x1 x2 x3 x4 x5 x6 x7 x8 x10 x11 s0 s2 : Int} {M : Mem} {Q : AR → Mem → Prop} : Bq 317 de_317 (List.drop 18 bk_317_2) [vR 22 0, vI x1, vI x2, vI x3, vI x4, vI x5, vI x6, vI x7, vI x8, vJ, vI x10, vI x11] [vI s0, vR 22039 0, vI s2, vR 22039 0] M Q ↔ (((0 : Int) ≤ s0 ∧ s0 < 24) ∧ ((0 : Int) ≤ s2 ∧ s2 < 24) ∧ bd (mset M 22039 0 s2 (M 22039 0 s0)) fun M1 => ((0 : Int) ≤ w32 (x11 - 1) ∧ w32 (x11 - 1) < 24) ∧ ((0 : Int) ≤ x11 ∧ x11 < 24) ∧ bd (mset M1 22040 0 x11 (M1 22040 0 (w32 (x11 - 1)))) fun M2 => Tq 317 2 [vR 22 0, vI x1, vI x2, vI x3, vI x4, vI x5, vI x6, vI x7, vI x8, vJ, vI x10, vI (w32 (x11 + (-1)))] [] M2 Q) :=
  (show Bq 317 de_317 (List.drop 18 bk_317_2) [vR 22 0, vI x1, vI x2, vI x3, vI x4, vI x5, vI x6, vI x7, vI x8, vJ, vI x10, vI x11] [vI s0, vR 22039 0, vI s2, vR 22039 0] M Q ↔ (((0 : Int) ≤ s0 ∧ s0 < 24) ∧ ((0 : Int) ≤ s2 ∧ s2 < 24) ∧ bd (mset M 22039 0 s2 (M 22039 0 s0)) fun M1 => Bq 317 de_317 (List.drop 24 bk_317_2) [vR 22 0, vI x1, vI x2, vI x3, vI x4, vI x5, vI x6, vI x7, vI x8, vJ, vI x10, vI x11] [vR 22 0, vI x11, vR 22040 0] M1 Q) from Iff.rfl).trans (by simp only [t317_2_c24])
theorem t317_2_c12 {x1 x2 x3 x4 x5 x6 x7 x8 x10 x11 : Int} {M : Mem} {Q : AR → Mem → Prop} : Bq 317 de_317 (List.drop 12 bk_317_2) [vR 22 0, vI x1, vI x2, vI x3, vI x4, vI x5, vI x6, vI x7, vI x8, vJ, vI x10, vI x11] [vR 22039 0] M Q ↔ (((0 : Int) ≤ w32 (x11 - 1) ∧ w32 (x11 - 1) < 24) ∧ ((0 : Int) ≤ x11 ∧ x11 < 24) ∧ bd (mset M 22039 0 x11 (M 22039 0 (w32 (x11 - 1)))) fun M1 => ((0 : Int) ≤ w32 (x11 - 1) ∧ w32 (x11 - 1) < 24) ∧ ((0 : Int) ≤ x11 ∧ x11 < 24) ∧ bd (mset M1 22040 0 x11 (M1 22040 0 (w32 (x11 - 1)))) fun M2 => Tq 317 2 [vR 22 0, vI x1, vI x2, vI x3, vI x4, vI x5, vI x6, vI x7, vI x8, vJ, vI x10, vI (w32 (x11 + (-1)))] [] M2 Q) :=
  (show Bq 317 de_317 (List.drop 12 bk_317_2) [vR 22 0, vI x1, vI x2, vI x3, vI x4, vI x5, vI x6, vI x7, vI x8, vJ, vI x10, vI x11] [vR 22039 0] M Q ↔ (Bq 317 de_317 (List.drop 18 bk_317_2) [vR 22 0, vI x1, vI x2, vI x3, vI x4, vI x5, vI x6, vI x7, vI x8, vJ, vI x10, vI x11] [vI (w32 (x11 - 1)), vR 22039 0, vI x11, vR 22039 0] M Q) from Iff.rfl).trans (by simp only [t317_2_c18])
theorem t317_2_c6 {x1 x2 x3 x4 x5 x6 x7 x8 x10 x11 s0 s1 : Int} {M : Mem} {Q : AR → Mem → Prop} : Bq 317 de_317 (List.drop 6 bk_317_2) [vR 22 0, vI x1, vI x2, vI x3, vI x4, vI x5, vI x6, vI x7, vI x8, vJ, vI x10, vI x11] [vI s0, vI s1, vR 22039 0] M Q ↔ (((0 : Int) ≤ w32 (s1 - s0) ∧ w32 (s1 - s0) < 24) ∧ if M 22039 0 (w32 (s1 - s0)) ≤ x10 then Tq 317 3 [vR 22 0, vI x1, vI x2, vI x3, vI x4, vI x5, vI x6, vI x7, vI x8, vJ, vI x10, vI x11] [] M Q else ((0 : Int) ≤ w32 (x11 - 1) ∧ w32 (x11 - 1) < 24) ∧ ((0 : Int) ≤ x11 ∧ x11 < 24) ∧ bd (mset M 22039 0 x11 (M 22039 0 (w32 (x11 - 1)))) fun M1 => ((0 : Int) ≤ w32 (x11 - 1) ∧ w32 (x11 - 1) < 24) ∧ ((0 : Int) ≤ x11 ∧ x11 < 24) ∧ bd (mset M1 22040 0 x11 (M1 22040 0 (w32 (x11 - 1)))) fun M2 => Tq 317 2 [vR 22 0, vI x1, vI x2, vI x3, vI x4, vI x5, vI x6, vI x7, vI x8, vJ, vI x10, vI (w32 (x11 + (-1)))] [] M2 Q) :=
  (show Bq 317 de_317 (List.drop 6 bk_317_2) [vR 22 0, vI x1, vI x2, vI x3, vI x4, vI x5, vI x6, vI x7, vI x8, vJ, vI x10, vI x11] [vI s0, vI s1, vR 22039 0] M Q ↔ (((0 : Int) ≤ w32 (s1 - s0) ∧ w32 (s1 - s0) < 24) ∧ if M 22039 0 (w32 (s1 - s0)) ≤ x10 then Tq 317 3 [vR 22 0, vI x1, vI x2, vI x3, vI x4, vI x5, vI x6, vI x7, vI x8, vJ, vI x10, vI x11] [] M Q else Bq 317 de_317 (List.drop 12 bk_317_2) [vR 22 0, vI x1, vI x2, vI x3, vI x4, vI x5, vI x6, vI x7, vI x8, vJ, vI x10, vI x11] [vR 22039 0] M Q) from Iff.rfl).trans (by simp only [t317_2_c12])
theorem t317_2 {x1 x2 x3 x4 x5 x6 x7 x8 x10 x11 : Int} {M : Mem} {Q : AR → Mem → Prop} : Tq 317 2 [vR 22 0, vI x1, vI x2, vI x3, vI x4, vI x5, vI x6, vI x7, vI x8, vJ, vI x10, vI x11] [] M Q ↔ (if x11 ≤ 0 then Tq 317 3 [vR 22 0, vI x1, vI x2, vI x3, vI x4, vI x5, vI x6, vI x7, vI x8, vJ, vI x10, vI x11] [] M Q else ((0 : Int) ≤ w32 (x11 - 1) ∧ w32 (x11 - 1) < 24) ∧ if M 22039 0 (w32 (x11 - 1)) ≤ x10 then Tq 317 3 [vR 22 0, vI x1, vI x2, vI x3, vI x4, vI x5, vI x6, vI x7, vI x8, vJ, vI x10, vI x11] [] M Q else ((0 : Int) ≤ w32 (x11 - 1) ∧ w32 (x11 - 1) < 24) ∧ ((0 : Int) ≤ x11 ∧ x11 < 24) ∧ bd (mset M 22039 0 x11 (M 22039 0 (w32 (x11 - 1)))) fun M1 => ((0 : Int) ≤ w32 (x11 - 1) ∧ w32 (x11 - 1) < 24) ∧ ((0 : Int) ≤ x11 ∧ x11 < 24) ∧ bd (mset M1 22040 0 x11 (M1 22040 0 (w32 (x11 - 1)))) fun M2 => Tq 317 2 [vR 22 0, vI x1, vI x2, vI x3, vI x4, vI x5, vI x6, vI x7, vI x8, vJ, vI x10, vI (w32 (x11 + (-1)))] [] M2 Q) :=
  (show Tq 317 2 [vR 22 0, vI x1, vI x2, vI x3, vI x4, vI x5, vI x6, vI x7, vI x8, vJ, vI x10, vI x11] [] M Q ↔ (if x11 ≤ 0 then Tq 317 3 [vR 22 0, vI x1, vI x2, vI x3, vI x4, vI x5, vI x6, vI x7, vI x8, vJ, vI x10, vI x11] [] M Q else Bq 317 de_317 (List.drop 6 bk_317_2) [vR 22 0, vI x1, vI x2, vI x3, vI x4, vI x5, vI x6, vI x7, vI x8, vJ, vI x10, vI x11] [vI 1, vI x11, vR 22039 0] M Q) from Tq_blk (is := bk_317_2) (dd := de_317) rfl rfl).trans (by simp only [t317_2_c6])
/-- EarthOfficeModel misfitAt block at 149 -/
theorem t317_3_c18 {x1 x2 x3 x4 x5 x6 x7 x8 x10 x11 s1 : Int} {M : Mem} {Q : AR → Mem → Prop} : Bq 317 de_317 (List.drop 18 bk_317_3) [vR 22 0, vI x1, vI x2, vI x3, vI x4, vI x5, vI x6, vI x7, vI x8, vJ, vI x10, vI x11] [vR 22031 0, vI s1] M Q ↔ (((0 : Int) ≤ w32 (x8 + 3) ∧ w32 (x8 + 3) < 2880) ∧ Tq 317 1 [vR 22 0, vI x1, vI x2, vI x3, vI x4, vI (w32 (s1 + M 22031 0 (w32 (x8 + 3)))), vI x6, vI (w32 (x7 + 1)), vJ, vJ, vJ, vJ] [] M Q) :=
  Iff.rfl
theorem t317_3_c12 {x1 x2 x3 x4 x5 x6 x7 x8 x10 x11 s0 s1 s3 : Int} {M : Mem} {Q : AR → Mem → Prop} : Bq 317 de_317 (List.drop 12 bk_317_3) [vR 22 0, vI x1, vI x2, vI x3, vI x4, vI x5, vI x6, vI x7, vI x8, vJ, vI x10, vI x11] [vI s0, vI s1, vR 22031 0, vI s3, vR 22040 0] M Q ↔ (((0 : Int) ≤ w32 (s1 + s0) ∧ w32 (s1 + s0) < 2880) ∧ ((0 : Int) ≤ s3 ∧ s3 < 24) ∧ bd (mset M 22040 0 s3 (M 22031 0 (w32 (s1 + s0)))) fun M1 => ((0 : Int) ≤ w32 (x8 + 3) ∧ w32 (x8 + 3) < 2880) ∧ Tq 317 1 [vR 22 0, vI x1, vI x2, vI x3, vI x4, vI (w32 (x5 + M1 22031 0 (w32 (x8 + 3)))), vI x6, vI (w32 (x7 + 1)), vJ, vJ, vJ, vJ] [] M1 Q) :=
  (show Bq 317 de_317 (List.drop 12 bk_317_3) [vR 22 0, vI x1, vI x2, vI x3, vI x4, vI x5, vI x6, vI x7, vI x8, vJ, vI x10, vI x11] [vI s0, vI s1, vR 22031 0, vI s3, vR 22040 0] M Q ↔ (((0 : Int) ≤ w32 (s1 + s0) ∧ w32 (s1 + s0) < 2880) ∧ ((0 : Int) ≤ s3 ∧ s3 < 24) ∧ bd (mset M 22040 0 s3 (M 22031 0 (w32 (s1 + s0)))) fun M1 => Bq 317 de_317 (List.drop 18 bk_317_3) [vR 22 0, vI x1, vI x2, vI x3, vI x4, vI x5, vI x6, vI x7, vI x8, vJ, vI x10, vI x11] [vR 22031 0, vI x5] M1 Q) from Iff.rfl).trans (by simp only [t317_3_c18])
theorem t317_3_c6 {x1 x2 x3 x4 x5 x6 x7 x8 x10 x11 : Int} {M : Mem} {Q : AR → Mem → Prop} : Bq 317 de_317 (List.drop 6 bk_317_3) [vR 22 0, vI x1, vI x2, vI x3, vI x4, vI x5, vI x6, vI x7, vI x8, vJ, vI x10, vI x11] [vR 22 0] M Q ↔ (((0 : Int) ≤ w32 (x8 + 3) ∧ w32 (x8 + 3) < 2880) ∧ ((0 : Int) ≤ x11 ∧ x11 < 24) ∧ bd (mset M 22040 0 x11 (M 22031 0 (w32 (x8 + 3)))) fun M1 => ((0 : Int) ≤ w32 (x8 + 3) ∧ w32 (x8 + 3) < 2880) ∧ Tq 317 1 [vR 22 0, vI x1, vI x2, vI x3, vI x4, vI (w32 (x5 + M1 22031 0 (w32 (x8 + 3)))), vI x6, vI (w32 (x7 + 1)), vJ, vJ, vJ, vJ] [] M1 Q) :=
  (show Bq 317 de_317 (List.drop 6 bk_317_3) [vR 22 0, vI x1, vI x2, vI x3, vI x4, vI x5, vI x6, vI x7, vI x8, vJ, vI x10, vI x11] [vR 22 0] M Q ↔ (Bq 317 de_317 (List.drop 12 bk_317_3) [vR 22 0, vI x1, vI x2, vI x3, vI x4, vI x5, vI x6, vI x7, vI x8, vJ, vI x10, vI x11] [vI 3, vI x8, vR 22031 0, vI x11, vR 22040 0] M Q) from Iff.rfl).trans (by simp only [t317_3_c12])
theorem t317_3 {x1 x2 x3 x4 x5 x6 x7 x8 x10 x11 : Int} {M : Mem} {Q : AR → Mem → Prop} : Tq 317 3 [vR 22 0, vI x1, vI x2, vI x3, vI x4, vI x5, vI x6, vI x7, vI x8, vJ, vI x10, vI x11] [] M Q ↔ (((0 : Int) ≤ x11 ∧ x11 < 24) ∧ bd (mset M 22039 0 x11 x10) fun M1 => ((0 : Int) ≤ w32 (x8 + 3) ∧ w32 (x8 + 3) < 2880) ∧ ((0 : Int) ≤ x11 ∧ x11 < 24) ∧ bd (mset M1 22040 0 x11 (M1 22031 0 (w32 (x8 + 3)))) fun M2 => ((0 : Int) ≤ w32 (x8 + 3) ∧ w32 (x8 + 3) < 2880) ∧ Tq 317 1 [vR 22 0, vI x1, vI x2, vI x3, vI x4, vI (w32 (x5 + M2 22031 0 (w32 (x8 + 3)))), vI x6, vI (w32 (x7 + 1)), vJ, vJ, vJ, vJ] [] M2 Q) :=
  (show Tq 317 3 [vR 22 0, vI x1, vI x2, vI x3, vI x4, vI x5, vI x6, vI x7, vI x8, vJ, vI x10, vI x11] [] M Q ↔ (((0 : Int) ≤ x11 ∧ x11 < 24) ∧ bd (mset M 22039 0 x11 x10) fun M1 => Bq 317 de_317 (List.drop 6 bk_317_3) [vR 22 0, vI x1, vI x2, vI x3, vI x4, vI x5, vI x6, vI x7, vI x8, vJ, vI x10, vI x11] [vR 22 0] M1 Q) from Tq_blk (is := bk_317_3) (dd := de_317) rfl rfl).trans (by simp only [t317_3_c6])
/-- EarthOfficeModel misfitAt block at 194 -/
theorem t317_4 {x5 x6 : Int} {M : Mem} {Q : AR → Mem → Prop} : Tq 317 4 [vR 22 0, vJ, vJ, vJ, vJ, vI x5, vI x6, vJ, vJ, vJ, vJ, vJ] [] M Q ↔ (((0 : Int) ≤ 0 ∧ (0 : Int) < 24) ∧ Tq 317 5 [vR 22 0, vJ, vJ, vJ, vJ, vI x5, vI x6, vI (M 22040 0 0), vI 0, vJ, vJ, vJ] [] M Q) :=
  Tq_blk (is := bk_317_4) (dd := de_317) rfl rfl
/-- EarthOfficeModel misfitAt block at 205 -/
theorem t317_5_c6 {x5 x6 x7 x8 : Int} {M : Mem} {Q : AR → Mem → Prop} : Bq 317 de_317 (List.drop 6 bk_317_5) [vR 22 0, vJ, vJ, vJ, vJ, vI x5, vI x6, vI x7, vI x8, vJ, vJ, vJ] [] M Q ↔ (((0 : Int) ≤ x8 ∧ x8 < 24) ∧ Tq 317 5 [vR 22 0, vJ, vJ, vJ, vJ, vI x5, vI x6, vI (w32 (x7 + M 22040 0 x8)), vI x8, vJ, vJ, vJ] [] M Q) :=
  Iff.rfl
theorem t317_5 {x5 x6 x7 x8 : Int} {M : Mem} {Q : AR → Mem → Prop} : Tq 317 5 [vR 22 0, vJ, vJ, vJ, vJ, vI x5, vI x6, vI x7, vI x8, vJ, vJ, vJ] [] M Q ↔ (if x5 ≤ w32 (2 * x7) then Tq 317 6 [vR 22 0, vJ, vJ, vJ, vJ, vJ, vI x6, vJ, vI x8, vJ, vJ, vJ] [] M Q else ((0 : Int) ≤ w32 (x8 + 1) ∧ w32 (x8 + 1) < 24) ∧ Tq 317 5 [vR 22 0, vJ, vJ, vJ, vJ, vI x5, vI x6, vI (w32 (x7 + M 22040 0 (w32 (x8 + 1)))), vI (w32 (x8 + 1)), vJ, vJ, vJ] [] M Q) :=
  (show Tq 317 5 [vR 22 0, vJ, vJ, vJ, vJ, vI x5, vI x6, vI x7, vI x8, vJ, vJ, vJ] [] M Q ↔ (if x5 ≤ w32 (2 * x7) then Tq 317 6 [vR 22 0, vJ, vJ, vJ, vJ, vJ, vI x6, vJ, vI x8, vJ, vJ, vJ] [] M Q else Bq 317 de_317 (List.drop 6 bk_317_5) [vR 22 0, vJ, vJ, vJ, vJ, vI x5, vI x6, vI x7, vI (w32 (x8 + 1)), vJ, vJ, vJ] [] M Q) from Tq_blk (is := bk_317_5) (dd := de_317) rfl rfl).trans (by simp only [t317_5_c6])
/-- EarthOfficeModel misfitAt block at 232 -/
theorem t317_6_c6 {x6 x8 : Int} {M : Mem} {Q : AR → Mem → Prop} : Bq 317 de_317 (List.drop 6 bk_317_6) [vR 22 0, vJ, vJ, vJ, vJ, vJ, vI x6, vJ, vI x8, vJ, vJ, vJ] [] M Q ↔ (Tq 317 7 [vR 22 0, vJ, vJ, vJ, vJ, vJ, vI x6, vJ, vJ, vI 0, vI 0, vJ] [] M Q) :=
  Iff.rfl
theorem t317_6 {x6 x8 : Int} {M : Mem} {Q : AR → Mem → Prop} : Tq 317 6 [vR 22 0, vJ, vJ, vJ, vJ, vJ, vI x6, vJ, vI x8, vJ, vJ, vJ] [] M Q ↔ (((0 : Int) ≤ x8 ∧ x8 < 24) ∧ bd (mset M 22 0 41 (M 22039 0 x8)) fun M1 => Tq 317 7 [vR 22 0, vJ, vJ, vJ, vJ, vJ, vI x6, vJ, vJ, vI 0, vI 0, vJ] [] M1 Q) :=
  (show Tq 317 6 [vR 22 0, vJ, vJ, vJ, vJ, vJ, vI x6, vJ, vI x8, vJ, vJ, vJ] [] M Q ↔ (((0 : Int) ≤ x8 ∧ x8 < 24) ∧ bd (mset M 22 0 41 (M 22039 0 x8)) fun M1 => Bq 317 de_317 (List.drop 6 bk_317_6) [vR 22 0, vJ, vJ, vJ, vJ, vJ, vI x6, vJ, vI x8, vJ, vJ, vJ] [] M1 Q) from Tq_blk (is := bk_317_6) (dd := de_317) rfl rfl).trans (by simp only [t317_6_c6])
/-- EarthOfficeModel misfitAt block at 249 -/
theorem t317_7_c16 {x6 x9 x10 s0 s1 s2 : Int} {M : Mem} {Q : AR → Mem → Prop} : Bq 317 de_317 (List.drop 16 bk_317_7) [vR 22 0, vJ, vJ, vJ, vJ, vJ, vI x6, vJ, vJ, vI x9, vI x10, vJ] [vI s0, vI s1, vI s2] M Q ↔ (Tq 317 7 [vR 22 0, vJ, vJ, vJ, vJ, vJ, vI x6, vJ, vJ, vI (w32 (s2 + w32 (s1 * s0))), vI (w32 (x10 + 1)), vJ] [] M Q) :=
  Iff.rfl
theorem t317_7_c12 {x6 x9 x10 s0 s1 s2 : Int} {M : Mem} {Q : AR → Mem → Prop} : Bq 317 de_317 (List.drop 12 bk_317_7) [vR 22 0, vJ, vJ, vJ, vJ, vJ, vI x6, vJ, vJ, vI x9, vI x10, vJ] [vI s0, vI s1, vI s2] M Q ↔ (Tq 13 0 [vI (w32 (s0 - (M 22 0 41)))] [] M (kI fun v1 M1 => Tq 317 7 [vR 22 0, vJ, vJ, vJ, vJ, vJ, vI x6, vJ, vJ, vI (w32 (s2 + w32 (s1 * v1))), vI (w32 (x10 + 1)), vJ] [] M1 Q)) :=
  (show Bq 317 de_317 (List.drop 12 bk_317_7) [vR 22 0, vJ, vJ, vJ, vJ, vJ, vI x6, vJ, vJ, vI x9, vI x10, vJ] [vI s0, vI s1, vI s2] M Q ↔ (Tq 13 0 [vI (w32 (s0 - (M 22 0 41)))] [] M (kI fun v1 M1 => Bq 317 de_317 (List.drop 16 bk_317_7) [vR 22 0, vJ, vJ, vJ, vJ, vJ, vI x6, vJ, vJ, vI x9, vI x10, vJ] [vI v1, vI s1, vI s2] M1 Q)) from Iff.rfl).trans (by simp only [t317_7_c16])
theorem t317_7_c6 {x6 x9 x10 s1 : Int} {M : Mem} {Q : AR → Mem → Prop} : Bq 317 de_317 (List.drop 6 bk_317_7) [vR 22 0, vJ, vJ, vJ, vJ, vJ, vI x6, vJ, vJ, vI x9, vI x10, vJ] [vR 22040 0, vI s1] M Q ↔ (((0 : Int) ≤ x10 ∧ x10 < 24) ∧ ((0 : Int) ≤ x10 ∧ x10 < 24) ∧ Tq 13 0 [vI (w32 (M 22039 0 x10 - (M 22 0 41)))] [] M (kI fun v1 M1 => Tq 317 7 [vR 22 0, vJ, vJ, vJ, vJ, vJ, vI x6, vJ, vJ, vI (w32 (s1 + w32 ((M 22040 0 x10) * v1))), vI (w32 (x10 + 1)), vJ] [] M1 Q)) :=
  (show Bq 317 de_317 (List.drop 6 bk_317_7) [vR 22 0, vJ, vJ, vJ, vJ, vJ, vI x6, vJ, vJ, vI x9, vI x10, vJ] [vR 22040 0, vI s1] M Q ↔ (((0 : Int) ≤ x10 ∧ x10 < 24) ∧ ((0 : Int) ≤ x10 ∧ x10 < 24) ∧ Bq 317 de_317 (List.drop 12 bk_317_7) [vR 22 0, vJ, vJ, vJ, vJ, vJ, vI x6, vJ, vJ, vI x9, vI x10, vJ] [vI (M 22039 0 x10), vI (M 22040 0 x10), vI s1] M Q) from Iff.rfl).trans (by simp only [t317_7_c12])
theorem t317_7 {x6 x9 x10 : Int} {M : Mem} {Q : AR → Mem → Prop} : Tq 317 7 [vR 22 0, vJ, vJ, vJ, vJ, vJ, vI x6, vJ, vJ, vI x9, vI x10, vJ] [] M Q ↔ (if x6 ≤ x10 then Tq 317 8 [vJ, vJ, vJ, vJ, vJ, vJ, vJ, vJ, vJ, vI x9, vJ, vJ] [] M Q else ((0 : Int) ≤ x10 ∧ x10 < 24) ∧ ((0 : Int) ≤ x10 ∧ x10 < 24) ∧ Tq 13 0 [vI (w32 (M 22039 0 x10 - (M 22 0 41)))] [] M (kI fun v1 M1 => Tq 317 7 [vR 22 0, vJ, vJ, vJ, vJ, vJ, vI x6, vJ, vJ, vI (w32 (x9 + w32 ((M 22040 0 x10) * v1))), vI (w32 (x10 + 1)), vJ] [] M1 Q)) :=
  (show Tq 317 7 [vR 22 0, vJ, vJ, vJ, vJ, vJ, vI x6, vJ, vJ, vI x9, vI x10, vJ] [] M Q ↔ (if x6 ≤ x10 then Tq 317 8 [vJ, vJ, vJ, vJ, vJ, vJ, vJ, vJ, vJ, vI x9, vJ, vJ] [] M Q else Bq 317 de_317 (List.drop 6 bk_317_7) [vR 22 0, vJ, vJ, vJ, vJ, vJ, vI x6, vJ, vJ, vI x9, vI x10, vJ] [vR 22040 0, vI x9] M Q) from Tq_blk (is := bk_317_7) (dd := de_317) rfl rfl).trans (by simp only [t317_7_c6])
/-- EarthOfficeModel misfitAt block at 290 -/
theorem t317_8 {x9 : Int} {M : Mem} {Q : AR → Mem → Prop} : Tq 317 8 [vJ, vJ, vJ, vJ, vJ, vJ, vJ, vJ, vJ, vI x9, vJ, vJ] [] M Q ↔ (Q (.inl (some (vI x9))) M) :=
  Tq_blk (is := bk_317_8) (dd := de_317) rfl rfl
/-- EarthOfficeModel size block at 0 -/
theorem t318_0 {x1 : Int} {M : Mem} {Q : AR → Mem → Prop} : Tq 318 0 [vR 22 0, vI x1, vJ, vJ, vJ, vJ] [] M Q ↔ (Tq 213 0 [vR 22 0, vI x1] [] M (kI fun v1 M1 => if ¬ v1 = 0 then Tq 318 1 [vR 22 0, vI x1, vJ, vJ, vJ, vJ] [] M1 Q else Q (.inl (some (vI (-1)))) M1)) :=
  Tq_blk (is := bk_318_0) (dd := de_318) rfl rfl
/-- EarthOfficeModel size block at 10 -/
theorem t318_1 {x1 : Int} {M : Mem} {Q : AR → Mem → Prop} : Tq 318 1 [vR 22 0, vI x1, vJ, vJ, vJ, vJ] [] M Q ↔ (Tq 318 2 [vR 22 0, vI x1, vI 0, vI 0, vJ, vJ] [] M Q) :=
  Tq_blk (is := bk_318_1) (dd := de_318) rfl rfl
/-- EarthOfficeModel size block at 14 -/
theorem t318_2 {x1 x2 x3 : Int} {M : Mem} {Q : AR → Mem → Prop} : Tq 318 2 [vR 22 0, vI x1, vI x2, vI x3, vJ, vJ] [] M Q ↔ (((0 : Int) ≤ x1 ∧ x1 < 24) ∧ if M 22030 0 x1 ≤ x3 then Tq 318 6 [vR 22 0, vI x1, vI x2, vJ, vJ, vJ] [] M Q else ((0 : Int) ≤ x1 ∧ x1 < 24) ∧ if ¬ M 22035 0 x1 = (-99999999) then Tq 318 6 [vR 22 0, vI x1, vI x2, vJ, vJ, vJ] [] M Q else Tq 319 0 [vR 22 0, vI x1, vI (w32 (5 * (w32 (w32 (24 * x1) + x3)))), vJ, vJ, vJ, vJ] [] M (kI fun v1 M1 => if v1 = (-99999999) then Tq 318 5 [vR 22 0, vI x1, vI x2, vI x3, vJ, vJ] [] M1 Q else Tq 318 3 [vR 22 0, vI x1, vI x2, vI x3, vI v1, vI x2] [] M1 Q)) :=
  Tq_blk (is := bk_318_2) (dd := de_318) rfl rfl
/-- EarthOfficeModel size block at 60 -/
theorem t318_3 {x1 x2 x3 x4 x5 : Int} {M : Mem} {Q : AR → Mem → Prop} : Tq 318 3 [vR 22 0, vI x1, vI x2, vI x3, vI x4, vI x5] [] M Q ↔ (if x5 ≤ 0 then Tq 318 4 [vR 22 0, vI x1, vI x2, vI x3, vI x4, vI x5] [] M Q else ((0 : Int) ≤ w32 (x5 - 1) ∧ w32 (x5 - 1) < 24) ∧ if M 22042 0 (w32 (x5 - 1)) ≤ x4 then Tq 318 4 [vR 22 0, vI x1, vI x2, vI x3, vI x4, vI x5] [] M Q else ((0 : Int) ≤ w32 (x5 - 1) ∧ w32 (x5 - 1) < 24) ∧ ((0 : Int) ≤ x5 ∧ x5 < 24) ∧ bd (mset M 22042 0 x5 (M 22042 0 (w32 (x5 - 1)))) fun M1 => Tq 318 3 [vR 22 0, vI x1, vI x2, vI x3, vI x4, vI (w32 (x5 + (-1)))] [] M1 Q) :=
  Tq_blk (is := bk_318_3) (dd := de_318) rfl rfl
/-- EarthOfficeModel size block at 101 -/
theorem t318_4 {x1 x2 x3 x4 x5 : Int} {M : Mem} {Q : AR → Mem → Prop} : Tq 318 4 [vR 22 0, vI x1, vI x2, vI x3, vI x4, vI x5] [] M Q ↔ (((0 : Int) ≤ x5 ∧ x5 < 24) ∧ bd (mset M 22042 0 x5 x4) fun M1 => Tq 318 5 [vR 22 0, vI x1, vI (w32 (x2 + 1)), vI x3, vJ, vJ] [] M1 Q) :=
  Tq_blk (is := bk_318_4) (dd := de_318) rfl rfl
/-- EarthOfficeModel size block at 113 -/
theorem t318_5 {x1 x2 x3 : Int} {M : Mem} {Q : AR → Mem → Prop} : Tq 318 5 [vR 22 0, vI x1, vI x2, vI x3, vJ, vJ] [] M Q ↔ (Tq 318 2 [vR 22 0, vI x1, vI x2, vI (w32 (x3 + 1)), vJ, vJ] [] M Q) :=
  Tq_blk (is := bk_318_5) (dd := de_318) rfl rfl
/-- EarthOfficeModel size block at 119 -/
theorem t318_6 {x1 x2 : Int} {M : Mem} {Q : AR → Mem → Prop} : Tq 318 6 [vR 22 0, vI x1, vI x2, vJ, vJ, vJ] [] M Q ↔ (if ¬ x2 = 0 then Tq 318 7 [vR 22 0, vI x1, vI x2, vJ, vJ, vJ] [] M Q else Q (.inl (some (vI (-2)))) M) :=
  Tq_blk (is := bk_318_6) (dd := de_318) rfl rfl
/-- EarthOfficeModel size block at 126 -/
theorem t318_7 {x1 x2 : Int} {M : Mem} {Q : AR → Mem → Prop} : Tq 318 7 [vR 22 0, vI x1, vI x2, vJ, vJ, vJ] [] M Q ↔ (((0 : Int) ≤ x1 ∧ x1 < 24) ∧ if M 22032 0 x1 = (16 : Int) then Tq 318 8 [vJ, vJ, vJ, vJ, vJ, vJ] [] M Q else Tq 198 0 [vR 22 0, vI 33] [] M (kI fun v1 M1 => if ¬ v1 = 0 then Tq 318 9 [vR 22 0, vI x1, vI x2, vJ, vJ, vJ] [] M1 Q else Tq 318 8 [vJ, vJ, vJ, vJ, vJ, vJ] [] M1 Q)) :=
  Tq_blk (is := bk_318_7) (dd := de_318) rfl rfl
/-- EarthOfficeModel size block at 146 -/
theorem t318_8 {M : Mem} {Q : AR → Mem → Prop} : Tq 318 8 [vJ, vJ, vJ, vJ, vJ, vJ] [] M Q ↔ (Q (.inl (some (vI (-3)))) M) :=
  Tq_blk (is := bk_318_8) (dd := de_318) rfl rfl
/-- EarthOfficeModel size block at 149 -/
theorem t318_9 {x1 x2 : Int} {M : Mem} {Q : AR → Mem → Prop} : Tq 318 9 [vR 22 0, vI x1, vI x2, vJ, vJ, vJ] [] M Q ↔ ((¬ (2 : Int) = 0) ∧ ((0 : Int) ≤ div32 x2 2 ∧ div32 x2 2 < 24) ∧ (¬ (2 : Int) = 0) ∧ ((0 : Int) ≤ div32 (w32 (x2 - 1)) 2 ∧ div32 (w32 (x2 - 1)) 2 < 24) ∧ Tq 210 0 [vR 22 0, vI x1, vI 1] [] M (kI fun v1 M1 => Tq 210 0 [vR 22 0, vI x1, vI 2] [] M1 (kI fun v2 M2 => Tq 210 0 [vR 22 0, vI x1, vI 3] [] M2 (kI fun v3 M3 => Tq 210 0 [vR 22 0, vI x1, vI 4] [] M3 (kI fun v4 M4 => Tq 210 0 [vR 22 0, vI x1, vI 5] [] M4 (kI fun v5 M5 => Tq 208 0 [vR 22 0, vI x1, vI 2, vI v1, vI v2, vI v3, vI v4, vI v5, vI (shr32 (w32 (M 22042 0 (div32 x2 2) + M 22042 0 (div32 (w32 (x2 - 1)) 2))) 1), vJ] [] M5 (kV fun M6 => Tq 211 0 [vR 22 0, vI x1, vJ] [] M6 (kV fun M7 => ((0 : Int) ≤ x1 ∧ x1 < 24) ∧ Q (.inl (some (vI (w32 (M7 22032 0 x1 - 1))))) M7)))))))) :=
  Tq_blk (is := bk_318_9) (dd := de_318) rfl rfl
/-- EarthOfficeModel sizeBy block at 0 -/
theorem t319_0 {x1 x2 : Int} {M : Mem} {Q : AR → Mem → Prop} : Tq 319 0 [vR 22 0, vI x1, vI x2, vJ, vJ, vJ, vJ] [] M Q ↔ (((0 : Int) ≤ x2 ∧ x2 < 2880) ∧ ((0 : Int) ≤ w32 (x2 + 1) ∧ w32 (x2 + 1) < 2880) ∧ Tq 319 1 [vR 22 0, vI x1, vI x2, vI (M 22031 0 x2), vL 0, vJ, vI (M 22031 0 (w32 (x2 + 1)))] [] M Q) :=
  Tq_blk (is := bk_319_0) (dd := de_319) rfl rfl
/-- EarthOfficeModel sizeBy block at 20 -/
theorem t319_1 {x1 x2 x3 x4 x6 : Int} {M : Mem} {Q : AR → Mem → Prop} : Tq 319 1 [vR 22 0, vI x1, vI x2, vI x3, vL x4, vJ, vI x6] [] M Q ↔ (((0 : Int) ≤ w32 (x2 + 1) ∧ w32 (x2 + 1) < 2880) ∧ if w32 (M 22031 0 (w32 (x2 + 1)) + 31) < x6 then Tq 319 3 [vR 22 0, vI x1, vI x2, vI x3, vL x4, vJ, vJ] [] M Q else if (4095 : Int) < x6 then Tq 319 3 [vR 22 0, vI x1, vI x2, vI x3, vL x4, vJ, vJ] [] M Q else ((0 : Int) ≤ w32 (w32 (4096 * x3) + x6) ∧ w32 (w32 (4096 * x3) + x6) < 49152) ∧ if M 22012 0 (w32 (w32 (4096 * x3) + x6)) = 0 then Tq 319 2 [vR 22 0, vI x1, vI x2, vI x3, vL x4, vJ, vI x6] [] M Q else ((0 : Int) ≤ w32 (w32 (4096 * x3) + x6) ∧ w32 (w32 (4096 * x3) + x6) < 49152) ∧ Tq 14 0 [vL (M 22013 0 (w32 (w32 (4096 * x3) + x6))), vJ] [] M (kL fun v1 M1 => Tq 12 0 [vL x4, vJ, vL v1, vJ] [] M1 (kL fun v2 M2 => Tq 319 2 [vR 22 0, vI x1, vI x2, vI x3, vL v2, vJ, vI x6] [] M2 Q))) :=
  Tq_blk (is := bk_319_1) (dd := de_319) rfl rfl
/-- EarthOfficeModel sizeBy block at 84 -/
theorem t319_2 {x1 x2 x3 x4 x6 : Int} {M : Mem} {Q : AR → Mem → Prop} : Tq 319 2 [vR 22 0, vI x1, vI x2, vI x3, vL x4, vJ, vI x6] [] M Q ↔ (Tq 319 1 [vR 22 0, vI x1, vI x2, vI x3, vL x4, vJ, vI (w32 (x6 + 1))] [] M Q) :=
  Tq_blk (is := bk_319_2) (dd := de_319) rfl rfl
/-- EarthOfficeModel sizeBy block at 90 -/
theorem t319_3 {x1 x2 x3 x4 : Int} {M : Mem} {Q : AR → Mem → Prop} : Tq 319 3 [vR 22 0, vI x1, vI x2, vI x3, vL x4, vJ, vJ] [] M Q ↔ (((0 : Int) ≤ w32 (x2 + 2) ∧ w32 (x2 + 2) < 2880) ∧ if ¬ M 22031 0 (w32 (x2 + 2)) = 0 then Tq 319 4 [vJ, vJ, vJ, vJ, vJ, vJ, vJ] [] M Q else if ¬ cmp64 x4 0 = 0 then Tq 319 5 [vR 22 0, vI x1, vJ, vI x3, vL x4, vJ, vJ] [] M Q else Tq 319 4 [vJ, vJ, vJ, vJ, vJ, vJ, vJ] [] M Q) :=
  Tq_blk (is := bk_319_3) (dd := de_319) rfl rfl
/-- EarthOfficeModel sizeBy block at 108 -/
theorem t319_4 {M : Mem} {Q : AR → Mem → Prop} : Tq 319 4 [vJ, vJ, vJ, vJ, vJ, vJ, vJ] [] M Q ↔ (Q (.inl (some (vI (-99999999)))) M) :=
  Tq_blk (is := bk_319_4) (dd := de_319) rfl rfl
/-- EarthOfficeModel sizeBy block at 111 -/
theorem t319_5 {x1 x3 x4 : Int} {M : Mem} {Q : AR → Mem → Prop} : Tq 319 5 [vR 22 0, vI x1, vJ, vI x3, vL x4, vJ, vJ] [] M Q ↔ (Tq 210 0 [vR 22 0, vI x1, vI 1] [] M (kI fun v1 M1 => Tq 210 0 [vR 22 0, vI x1, vI 2] [] M1 (kI fun v2 M2 => ((0 : Int) ≤ x3 ∧ x3 < 12) ∧ ((0 : Int) ≤ x3 ∧ x3 < 12) ∧ Tq 247 0 [vR 22 0, vI v1, vI v2, vI (M2 22010 0 x3), vI (M2 22011 0 x3)] [] M2 (kI fun v3 M3 => Tq 305 0 [vL x4, vJ, vJ, vJ, vJ, vJ, vJ] [] M3 (kI fun v4 M4 => Tq 305 0 [vL (w64 (1 + v3)), vJ, vJ, vJ, vJ, vJ, vJ] [] M4 (kI fun v5 M5 => (¬ (170 : Int) = 0) ∧ Q (.inl (some (vI (div32 (w32 (w32 (2 * v4) + w32 (3 * v5))) 170)))) M5)))))) :=
  Tq_blk (is := bk_319_5) (dd := de_319) rfl rfl
/-- EarthOfficeModel event block at 0 -/
theorem t320_0 {x1 x2 : Int} {M : Mem} {Q : AR → Mem → Prop} : Tq 320 0 [vR 22 0, vI x1, vI x2, vJ, vJ] [] M Q ↔ (Tq 213 0 [vR 22 0, vI x1] [] M (kI fun v1 M1 => if v1 = 0 then Tq 320 1 [vJ, vJ, vJ, vJ, vJ] [] M1 Q else Tq 189 0 [vI x2, vI 0, vI 4] [] M1 (kI fun v2 M2 => if ¬ v2 = 0 then Tq 320 2 [vR 22 0, vI x1, vI x2, vJ, vJ] [] M2 Q else Tq 320 1 [vJ, vJ, vJ, vJ, vJ] [] M2 Q))) :=
  Tq_blk (is := bk_320_0) (dd := de_320) rfl rfl
/-- EarthOfficeModel event block at 17 -/
theorem t320_1 {M : Mem} {Q : AR → Mem → Prop} : Tq 320 1 [vJ, vJ, vJ, vJ, vJ] [] M Q ↔ (Q (.inl (some (vI (-1)))) M) :=
  Tq_blk (is := bk_320_1) (dd := de_320) rfl rfl
/-- EarthOfficeModel event block at 19 -/
theorem t320_2 {x1 x2 : Int} {M : Mem} {Q : AR → Mem → Prop} : Tq 320 2 [vR 22 0, vI x1, vI x2, vJ, vJ] [] M Q ↔ (if (3 : Int) ≤ x2 then Tq 320 6 [vR 22 0, vI x1, vI x2, vJ, vJ] [] M Q else if ¬ x2 = 0 then Tq 320 3 [vR 22 0, vI x1, vI x2, vJ, vJ] [] M Q else ((0 : Int) ≤ x1 ∧ x1 < 24) ∧ Tq 320 5 [vJ, vJ, vJ, vJ, vJ] [vI (M 22032 0 x1)] M Q) :=
  Tq_blk (is := bk_320_2) (dd := de_320) rfl rfl
/-- EarthOfficeModel event block at 37 -/
theorem t320_3 {x1 x2 : Int} {M : Mem} {Q : AR → Mem → Prop} : Tq 320 3 [vR 22 0, vI x1, vI x2, vJ, vJ] [] M Q ↔ (if ¬ x2 = (1 : Int) then Tq 320 4 [vR 22 0, vI x1, vJ, vJ, vJ] [] M Q else ((0 : Int) ≤ x1 ∧ x1 < 24) ∧ Tq 320 5 [vJ, vJ, vJ, vJ, vJ] [vI (M 22030 0 x1)] M Q) :=
  Tq_blk (is := bk_320_3) (dd := de_320) rfl rfl
/-- EarthOfficeModel event block at 51 -/
theorem t320_4 {x1 : Int} {M : Mem} {Q : AR → Mem → Prop} : Tq 320 4 [vR 22 0, vI x1, vJ, vJ, vJ] [] M Q ↔ (((0 : Int) ≤ x1 ∧ x1 < 24) ∧ Tq 320 5 [vJ, vJ, vJ, vJ, vJ] [vI (M 22035 0 x1)] M Q) :=
  Tq_blk (is := bk_320_4) (dd := de_320) rfl rfl
/-- EarthOfficeModel event block at 57 -/
theorem t320_5 {s0 : Int} {M : Mem} {Q : AR → Mem → Prop} : Tq 320 5 [vJ, vJ, vJ, vJ, vJ] [vI s0] M Q ↔ (Q (.inl (some (vI s0))) M) :=
  Tq_blk (is := bk_320_5) (dd := de_320) rfl rfl
/-- EarthOfficeModel event block at 58 -/
theorem t320_6 {x1 x2 : Int} {M : Mem} {Q : AR → Mem → Prop} : Tq 320 6 [vR 22 0, vI x1, vI x2, vJ, vJ] [] M Q ↔ (Tq 320 7 [vR 22 0, vI x1, vI x2, vI 0, vI 0] [] M Q) :=
  Tq_blk (is := bk_320_6) (dd := de_320) rfl rfl
/-- EarthOfficeModel event block at 63 -/
theorem t320_7 {x1 x2 x3 x4 : Int} {M : Mem} {Q : AR → Mem → Prop} : Tq 320 7 [vR 22 0, vI x1, vI x2, vI x3, vI x4] [] M Q ↔ (((0 : Int) ≤ x1 ∧ x1 < 24) ∧ if M 22030 0 x1 ≤ x4 then Tq 320 12 [vJ, vJ, vJ, vI x3, vJ] [] M Q else ((0 : Int) ≤ w32 (w32 (5 * (w32 (w32 (24 * x1) + x4))) + 4) ∧ w32 (w32 (5 * (w32 (w32 (24 * x1) + x4))) + 4) < 2880) ∧ if ¬ x2 = (3 : Int) then Tq 320 8 [vR 22 0, vI x1, vI x2, vJ, vI x4] [vI (M 22031 0 (w32 (w32 (5 * (w32 (w32 (24 * x1) + x4))) + 4))), vI x3] M Q else Tq 320 9 [vR 22 0, vI x1, vI x2, vJ, vI x4] [vI 1, vI (M 22031 0 (w32 (w32 (5 * (w32 (w32 (24 * x1) + x4))) + 4))), vI x3] M Q) :=
  Tq_blk (is := bk_320_7) (dd := de_320) rfl rfl
/-- EarthOfficeModel event block at 100 -/
theorem t320_8 {x1 x2 x4 s0 s1 : Int} {M : Mem} {Q : AR → Mem → Prop} : Tq 320 8 [vR 22 0, vI x1, vI x2, vJ, vI x4] [vI s0, vI s1] M Q ↔ (Tq 320 9 [vR 22 0, vI x1, vI x2, vJ, vI x4] [vI (-1), vI s0, vI s1] M Q) :=
  Tq_blk (is := bk_320_8) (dd := de_320) rfl rfl
/-- EarthOfficeModel event block at 101 -/
theorem t320_9 {x1 x2 x4 s0 s1 s2 : Int} {M : Mem} {Q : AR → Mem → Prop} : Tq 320 9 [vR 22 0, vI x1, vI x2, vJ, vI x4] [vI s0, vI s1, vI s2] M Q ↔ (if ¬ s1 = s0 then Tq 320 10 [vR 22 0, vI x1, vI x2, vJ, vI x4] [vI s2] M Q else Tq 320 11 [vR 22 0, vI x1, vI x2, vJ, vI x4] [vI 1, vI s2] M Q) :=
  Tq_blk (is := bk_320_9) (dd := de_320) rfl rfl
/-- EarthOfficeModel event block at 108 -/
theorem t320_10 {x1 x2 x4 s0 : Int} {M : Mem} {Q : AR → Mem → Prop} : Tq 320 10 [vR 22 0, vI x1, vI x2, vJ, vI x4] [vI s0] M Q ↔ (Tq 320 11 [vR 22 0, vI x1, vI x2, vJ, vI x4] [vI 0, vI s0] M Q) :=
  Tq_blk (is := bk_320_10) (dd := de_320) rfl rfl
/-- EarthOfficeModel event block at 109 -/
theorem t320_11 {x1 x2 x4 s0 s1 : Int} {M : Mem} {Q : AR → Mem → Prop} : Tq 320 11 [vR 22 0, vI x1, vI x2, vJ, vI x4] [vI s0, vI s1] M Q ↔ (Tq 320 7 [vR 22 0, vI x1, vI x2, vI (w32 (s1 + s0)), vI (w32 (x4 + 1))] [] M Q) :=
  Tq_blk (is := bk_320_11) (dd := de_320) rfl rfl
/-- EarthOfficeModel event block at 117 -/
theorem t320_12 {x3 : Int} {M : Mem} {Q : AR → Mem → Prop} : Tq 320 12 [vJ, vJ, vJ, vI x3, vJ] [] M Q ↔ (Q (.inl (some (vI x3))) M) :=
  Tq_blk (is := bk_320_12) (dd := de_320) rfl rfl
/-- EarthOfficeModel version block at 0 -/
theorem t321_0 {x1 x2 x3 : Int} {M : Mem} {Q : AR → Mem → Prop} : Tq 321 0 [vR 22 0, vI x1, vI x2, vI x3] [] M Q ↔ (Tq 213 0 [vR 22 0, vI x1] [] M (kI fun v1 M1 => if v1 = 0 then Tq 321 1 [vJ, vJ, vJ, vJ] [] M1 Q else ((0 : Int) ≤ x1 ∧ x1 < 24) ∧ Tq 189 0 [vI x2, vI 0, vI (w32 (M1 22032 0 x1 - 1))] [] M1 (kI fun v2 M2 => if v2 = 0 then Tq 321 1 [vJ, vJ, vJ, vJ] [] M2 Q else Tq 189 0 [vI x3, vI 0, vI 7] [] M2 (kI fun v3 M3 => if v3 = 0 then Tq 321 1 [vJ, vJ, vJ, vJ] [] M3 Q else ((0 : Int) ≤ w32 (w32 (8 * (w32 (w32 (16 * x1) + x2))) + x3) ∧ w32 (w32 (8 * (w32 (w32 (16 * x1) + x2))) + x3) < 3072) ∧ Tq 321 2 [vJ, vJ, vJ, vJ] [vI (M3 22033 0 (w32 (w32 (8 * (w32 (w32 (16 * x1) + x2))) + x3)))] M3 Q)))) :=
  Tq_blk (is := bk_321_0) (dd := de_321) rfl rfl
/-- EarthOfficeModel version block at 53 -/
theorem t321_1 {M : Mem} {Q : AR → Mem → Prop} : Tq 321 1 [vJ, vJ, vJ, vJ] [] M Q ↔ (Tq 321 2 [vJ, vJ, vJ, vJ] [vI (-99999999)] M Q) :=
  Tq_blk (is := bk_321_1) (dd := de_321) rfl rfl
/-- EarthOfficeModel version block at 55 -/
theorem t321_2 {s0 : Int} {M : Mem} {Q : AR → Mem → Prop} : Tq 321 2 [vJ, vJ, vJ, vJ] [vI s0] M Q ↔ (Q (.inl (some (vI s0))) M) :=
  Tq_blk (is := bk_321_2) (dd := de_321) rfl rfl
/-- EarthOfficeModel arrival block at 0 -/
theorem t322_0 {x1 x2 x3 : Int} {M : Mem} {Q : AR → Mem → Prop} : Tq 322 0 [vR 22 0, vI x1, vI x2, vI x3] [] M Q ↔ (Tq 213 0 [vR 22 0, vI x1] [] M (kI fun v1 M1 => if v1 = 0 then Tq 322 1 [vJ, vJ, vJ, vJ] [] M1 Q else ((0 : Int) ≤ x1 ∧ x1 < 24) ∧ Tq 189 0 [vI x2, vI 0, vI (w32 (M1 22030 0 x1 - 1))] [] M1 (kI fun v2 M2 => if v2 = 0 then Tq 322 1 [vJ, vJ, vJ, vJ] [] M2 Q else Tq 189 0 [vI x3, vI 0, vI 4] [] M2 (kI fun v3 M3 => if v3 = 0 then Tq 322 1 [vJ, vJ, vJ, vJ] [] M3 Q else ((0 : Int) ≤ w32 (w32 (5 * (w32 (w32 (24 * x1) + x2))) + x3) ∧ w32 (w32 (5 * (w32 (w32 (24 * x1) + x2))) + x3) < 2880) ∧ Tq 322 2 [vJ, vJ, vJ, vJ] [vI (M3 22031 0 (w32 (w32 (5 * (w32 (w32 (24 * x1) + x2))) + x3)))] M3 Q)))) :=
  Tq_blk (is := bk_322_0) (dd := de_322) rfl rfl
/-- EarthOfficeModel arrival block at 51 -/
theorem t322_1 {M : Mem} {Q : AR → Mem → Prop} : Tq 322 1 [vJ, vJ, vJ, vJ] [] M Q ↔ (Tq 322 2 [vJ, vJ, vJ, vJ] [vI (-99999999)] M Q) :=
  Tq_blk (is := bk_322_1) (dd := de_322) rfl rfl
/-- EarthOfficeModel arrival block at 53 -/
theorem t322_2 {s0 : Int} {M : Mem} {Q : AR → Mem → Prop} : Tq 322 2 [vJ, vJ, vJ, vJ] [vI s0] M Q ↔ (Q (.inl (some (vI s0))) M) :=
  Tq_blk (is := bk_322_2) (dd := de_322) rfl rfl
/-- EarthOfficeModel high block at 0 -/
theorem t323_0 {x1 x2 x3 x4 x5 : Int} {M : Mem} {Q : AR → Mem → Prop} : Tq 323 0 [vR 22 0, vI x1, vI x2, vI x3, vI x4, vI x5, vJ, vJ] [] M Q ↔ (Tq 216 0 [vR 22 0, vI x1] [] M (kI fun v1 M1 => if v1 = 0 then Tq 323 1 [vJ, vJ, vJ, vJ, vJ, vJ, vJ, vJ] [] M1 Q else Tq 219 0 [vI x2] [] M1 (kI fun v2 M2 => if v2 = 0 then Tq 323 1 [vJ, vJ, vJ, vJ, vJ, vJ, vJ, vJ] [] M2 Q else Tq 219 0 [vI x3] [] M2 (kI fun v3 M3 => if v3 = 0 then Tq 323 1 [vJ, vJ, vJ, vJ, vJ, vJ, vJ, vJ] [] M3 Q else if x2 ≤ x3 then Tq 323 2 [vR 22 0, vI x1, vI x2, vI x3, vI x4, vI x5, vJ, vJ] [] M3 Q else Tq 323 1 [vJ, vJ, vJ, vJ, vJ, vJ, vJ, vJ] [] M3 Q)))) :=
  Tq_blk (is := bk_323_0) (dd := de_323) rfl rfl
/-- EarthOfficeModel high block at 27 -/
theorem t323_1 {M : Mem} {Q : AR → Mem → Prop} : Tq 323 1 [vJ, vJ, vJ, vJ, vJ, vJ, vJ, vJ] [] M Q ↔ (Q (.inl (some (vI (-1)))) M) :=
  Tq_blk (is := bk_323_1) (dd := de_323) rfl rfl
/-- EarthOfficeModel high block at 29 -/
theorem t323_2 {x1 x2 x3 x4 x5 : Int} {M : Mem} {Q : AR → Mem → Prop} : Tq 323 2 [vR 22 0, vI x1, vI x2, vI x3, vI x4, vI x5, vJ, vJ] [] M Q ↔ (Tq 323 3 [vR 22 0, vI x1, vJ, vI x3, vI x4, vI x5, vI 0, vI (w32 (x2 + 1))] [] M Q) :=
  Tq_blk (is := bk_323_2) (dd := de_323) rfl rfl
/-- EarthOfficeModel high block at 37 -/
theorem t323_3 {x1 x3 x4 x5 x6 x7 : Int} {M : Mem} {Q : AR → Mem → Prop} : Tq 323 3 [vR 22 0, vI x1, vJ, vI x3, vI x4, vI x5, vI x6, vI x7] [] M Q ↔ (if x3 ≤ x7 then Tq 323 8 [vJ, vJ, vJ, vJ, vJ, vJ, vJ, vJ] [] M Q else if x5 = 0 then Tq 323 4 [vR 22 0, vI x1, vJ, vI x3, vI x4, vI x5, vI x6, vI x7] [vI x3, vI x7, vI x1, vR 22 0] M Q else Tq 323 5 [vR 22 0, vI x1, vJ, vI x3, vI x4, vI x5, vI x6, vI x7] [vI (-1), vI x3, vI x7, vI x1, vR 22 0] M Q) :=
  Tq_blk (is := bk_323_3) (dd := de_323) rfl rfl
/-- EarthOfficeModel high block at 57 -/
theorem t323_4 {x1 x3 x4 x5 x6 x7 s0 s1 s2 : Int} {M : Mem} {Q : AR → Mem → Prop} : Tq 323 4 [vR 22 0, vI x1, vJ, vI x3, vI x4, vI x5, vI x6, vI x7] [vI s0, vI s1, vI s2, vR 22 0] M Q ↔ (Tq 323 5 [vR 22 0, vI x1, vJ, vI x3, vI x4, vI x5, vI x6, vI x7] [vI 1, vI s0, vI s1, vI s2, vR 22 0] M Q) :=
  Tq_blk (is := bk_323_4) (dd := de_323) rfl rfl
/-- EarthOfficeModel high block at 58 -/
theorem t323_5 {x1 x3 x4 x5 x6 x7 s0 s1 s2 s3 : Int} {M : Mem} {Q : AR → Mem → Prop} : Tq 323 5 [vR 22 0, vI x1, vJ, vI x3, vI x4, vI x5, vI x6, vI x7] [vI s0, vI s1, vI s2, vI s3, vR 22 0] M Q ↔ (Tq 324 0 [vR 22 0, vI s3, vI s2, vI s1, vI s0, vJ, vJ] [] M (kI fun v1 M1 => if v1 = 0 then Tq 323 7 [vR 22 0, vI x1, vJ, vI x3, vI x4, vI x5, vI x6, vI x7] [] M1 Q else if ¬ x6 = x4 then Tq 323 6 [vR 22 0, vI x1, vJ, vI x3, vI x4, vI x5, vI x6, vI x7] [] M1 Q else Q (.inl (some (vI x7))) M1)) :=
  Tq_blk (is := bk_323_5) (dd := de_323) rfl rfl
/-- EarthOfficeModel high block at 74 -/
theorem t323_6 {x1 x3 x4 x5 x6 x7 : Int} {M : Mem} {Q : AR → Mem → Prop} : Tq 323 6 [vR 22 0, vI x1, vJ, vI x3, vI x4, vI x5, vI x6, vI x7] [] M Q ↔ (Tq 323 7 [vR 22 0, vI x1, vJ, vI x3, vI x4, vI x5, vI (w32 (x6 + 1)), vI x7] [] M Q) :=
  Tq_blk (is := bk_323_6) (dd := de_323) rfl rfl
/-- EarthOfficeModel high block at 77 -/
theorem t323_7 {x1 x3 x4 x5 x6 x7 : Int} {M : Mem} {Q : AR → Mem → Prop} : Tq 323 7 [vR 22 0, vI x1, vJ, vI x3, vI x4, vI x5, vI x6, vI x7] [] M Q ↔ (Tq 323 3 [vR 22 0, vI x1, vJ, vI x3, vI x4, vI x5, vI x6, vI (w32 (x7 + 1))] [] M Q) :=
  Tq_blk (is := bk_323_7) (dd := de_323) rfl rfl
/-- EarthOfficeModel high block at 83 -/
theorem t323_8 {M : Mem} {Q : AR → Mem → Prop} : Tq 323 8 [vJ, vJ, vJ, vJ, vJ, vJ, vJ, vJ] [] M Q ↔ (Q (.inl (some (vI (-99999999)))) M) :=
  Tq_blk (is := bk_323_8) (dd := de_323) rfl rfl
/-- EarthOfficeModel isHigh block at 0 -/
theorem t324_0 {x1 x2 x3 x4 : Int} {M : Mem} {Q : AR → Mem → Prop} : Tq 324 0 [vR 22 0, vI x1, vI x2, vI x3, vI x4, vJ, vJ] [] M Q ↔ (Tq 243 0 [vR 22 0, vI x1, vI x2, vJ, vJ, vJ, vJ] [] M (kI fun v1 M1 => Tq 243 0 [vR 22 0, vI x1, vI (w32 (x2 - 1)), vJ, vJ, vJ, vJ] [] M1 (kI fun v2 M2 => if w32 (x4 * v2) < w32 (x4 * v1) then Tq 324 1 [vR 22 0, vI x1, vI x2, vI x3, vI x4, vI (w32 (x4 * v1)), vJ] [] M2 Q else Q (.inl (some (vI (nb 0)))) M2))) :=
  Tq_blk (is := bk_324_0) (dd := de_324) rfl rfl
/-- EarthOfficeModel isHigh block at 29 -/
theorem t324_1 {x1 x2 x3 x4 x5 : Int} {M : Mem} {Q : AR → Mem → Prop} : Tq 324 1 [vR 22 0, vI x1, vI x2, vI x3, vI x4, vI x5, vJ] [] M Q ↔ (Tq 324 2 [vR 22 0, vI x1, vJ, vI x3, vI x4, vI x5, vI (w32 (x2 + 1))] [] M Q) :=
  Tq_blk (is := bk_324_1) (dd := de_324) rfl rfl
/-- EarthOfficeModel isHigh block at 34 -/
theorem t324_2 {x1 x3 x4 x5 x6 : Int} {M : Mem} {Q : AR → Mem → Prop} : Tq 324 2 [vR 22 0, vI x1, vJ, vI x3, vI x4, vI x5, vI x6] [] M Q ↔ (if x3 ≤ x6 then Tq 324 3 [vR 22 0, vI x1, vJ, vJ, vI x4, vI x5, vI x6] [] M Q else Tq 243 0 [vR 22 0, vI x1, vI x6, vJ, vJ, vJ, vJ] [] M (kI fun v1 M1 => if ¬ w32 (x4 * v1) = x5 then Tq 324 3 [vR 22 0, vI x1, vJ, vJ, vI x4, vI x5, vI x6] [] M1 Q else Tq 324 2 [vR 22 0, vI x1, vJ, vI x3, vI x4, vI x5, vI (w32 (x6 + 1))] [] M1 Q)) :=
  Tq_blk (is := bk_324_2) (dd := de_324) rfl rfl
/-- EarthOfficeModel isHigh block at 61 -/
theorem t324_3 {x1 x4 x5 x6 : Int} {M : Mem} {Q : AR → Mem → Prop} : Tq 324 3 [vR 22 0, vI x1, vJ, vJ, vI x4, vI x5, vI x6] [] M Q ↔ (Tq 243 0 [vR 22 0, vI x1, vI x6, vJ, vJ, vJ, vJ] [] M (kI fun v1 M1 => if x5 ≤ w32 (x4 * v1) then Tq 324 4 [vJ, vJ, vJ, vJ, vJ, vJ, vJ] [] M1 Q else Tq 324 5 [vJ, vJ, vJ, vJ, vJ, vJ, vJ] [vI 1] M1 Q)) :=
  Tq_blk (is := bk_324_3) (dd := de_324) rfl rfl
/-- EarthOfficeModel isHigh block at 80 -/
theorem t324_4 {M : Mem} {Q : AR → Mem → Prop} : Tq 324 4 [vJ, vJ, vJ, vJ, vJ, vJ, vJ] [] M Q ↔ (Tq 324 5 [vJ, vJ, vJ, vJ, vJ, vJ, vJ] [vI 0] M Q) :=
  Tq_blk (is := bk_324_4) (dd := de_324) rfl rfl
/-- EarthOfficeModel isHigh block at 81 -/
theorem t324_5 {s0 : Int} {M : Mem} {Q : AR → Mem → Prop} : Tq 324 5 [vJ, vJ, vJ, vJ, vJ, vJ, vJ] [vI s0] M Q ↔ (Q (.inl (some (vI (nb s0)))) M) :=
  Tq_blk (is := bk_324_5) (dd := de_324) rfl rfl
/-- EarthOfficeModel sea block at 0 -/
theorem t325_0 {x1 x2 : Int} {M : Mem} {Q : AR → Mem → Prop} : Tq 325 0 [vR 22 0, vI x1, vI x2] [] M Q ↔ (Tq 189 0 [vI x1, vI 1, vI 32] [] M (kI fun v1 M1 => if v1 = 0 then Tq 325 1 [vJ, vJ, vJ] [] M1 Q else Tq 189 0 [vI x2, vI 1, vI 32] [] M1 (kI fun v2 M2 => if ¬ v2 = 0 then Tq 325 2 [vR 22 0, vI x1, vI x2] [] M2 Q else Tq 325 1 [vJ, vJ, vJ] [] M2 Q))) :=
  Tq_blk (is := bk_325_0) (dd := de_325) rfl rfl
/-- EarthOfficeModel sea block at 20 -/
theorem t325_1 {M : Mem} {Q : AR → Mem → Prop} : Tq 325 1 [vJ, vJ, vJ] [] M Q ↔ (Q (.inl (some (vI (-1)))) M) :=
  Tq_blk (is := bk_325_1) (dd := de_325) rfl rfl
/-- EarthOfficeModel sea block at 22 -/
theorem t325_2 {x1 x2 : Int} {M : Mem} {Q : AR → Mem → Prop} : Tq 325 2 [vR 22 0, vI x1, vI x2] [] M Q ↔ (bd (mset M 22 0 50 x1) fun M1 => bd (mset M1 22 0 51 x2) fun M2 => Tq 183 0 [vR 22 0, vJ] [] M2 (kV fun M3 => Q (.inl (some (vI (w32 (x1 * x2))))) M3)) :=
  Tq_blk (is := bk_325_2) (dd := de_325) rfl rfl
/-- EarthOfficeModel depth block at 0 -/
theorem t326_0 {x1 x2 x3 : Int} {M : Mem} {Q : AR → Mem → Prop} : Tq 326 0 [vR 22 0, vI x1, vI x2, vI x3, vJ] [] M Q ↔ (Tq 327 0 [vR 22 0, vI x1, vI x2] [] M (kI fun v1 M1 => if v1 = 0 then Tq 326 1 [vJ, vJ, vJ, vJ, vJ] [] M1 Q else Tq 189 0 [vI x3, vI (-5000), vI 9999] [] M1 (kI fun v2 M2 => if ¬ v2 = 0 then Tq 326 2 [vR 22 0, vI x1, vI x2, vI x3, vJ] [] M2 Q else Tq 326 1 [vJ, vJ, vJ, vJ, vJ] [] M2 Q))) :=
  Tq_blk (is := bk_326_0) (dd := de_326) rfl rfl
/-- EarthOfficeModel depth block at 22 -/
theorem t326_1 {M : Mem} {Q : AR → Mem → Prop} : Tq 326 1 [vJ, vJ, vJ, vJ, vJ] [] M Q ↔ (Q (.inl (some (vI (-1)))) M) :=
  Tq_blk (is := bk_326_1) (dd := de_326) rfl rfl
/-- EarthOfficeModel depth block at 24 -/
theorem t326_2 {x1 x2 x3 : Int} {M : Mem} {Q : AR → Mem → Prop} : Tq 326 2 [vR 22 0, vI x1, vI x2, vI x3, vJ] [] M Q ↔ (((0 : Int) ≤ w32 (w32 (32 * x2) + x1) ∧ w32 (w32 (32 * x2) + x1) < 1024) ∧ bd (mset M 22052 0 (w32 (w32 (32 * x2) + x1)) x3) fun M1 => Tq 9 0 [vI 0, vI x3] [] M1 (kI fun v1 M2 => ((0 : Int) ≤ w32 (w32 (32 * x2) + x1) ∧ w32 (w32 (32 * x2) + x1) < 1024) ∧ bd (mset M2 22053 0 (w32 (w32 (32 * x2) + x1)) v1) fun M3 => ((0 : Int) ≤ w32 (w32 (32 * x2) + x1) ∧ w32 (w32 (32 * x2) + x1) < 1024) ∧ ((0 : Int) ≤ w32 (w32 (32 * x2) + x1) ∧ w32 (w32 (32 * x2) + x1) < 1024) ∧ bd (mset M3 22054 0 (w32 (w32 (32 * x2) + x1)) (w32 (M3 22053 0 (w32 (w32 (32 * x2) + x1)) - x3))) fun M4 => Q (.inl (some (vI 0))) M4)) :=
  Tq_blk (is := bk_326_2) (dd := de_326) rfl rfl
/-- EarthOfficeModel isCell block at 0 -/
theorem t327_0 {x1 x2 : Int} {M : Mem} {Q : AR → Mem → Prop} : Tq 327 0 [vR 22 0, vI x1, vI x2] [] M Q ↔ (Tq 189 0 [vI x1, vI 0, vI (w32 (M 22 0 50 - 1))] [] M (kI fun v1 M1 => if v1 = 0 then Tq 327 1 [vJ, vJ, vJ] [] M1 Q else Tq 189 0 [vI x2, vI 0, vI (w32 (M1 22 0 51 - 1))] [] M1 (kI fun v2 M2 => if v2 = 0 then Tq 327 1 [vJ, vJ, vJ] [] M2 Q else Tq 327 2 [vJ, vJ, vJ] [vI 1] M2 Q))) :=
  Tq_blk (is := bk_327_0) (dd := de_327) rfl rfl
/-- EarthOfficeModel isCell block at 32 -/
theorem t327_1 {M : Mem} {Q : AR → Mem → Prop} : Tq 327 1 [vJ, vJ, vJ] [] M Q ↔ (Tq 327 2 [vJ, vJ, vJ] [vI 0] M Q) :=
  Tq_blk (is := bk_327_1) (dd := de_327) rfl rfl
/-- EarthOfficeModel isCell block at 33 -/
theorem t327_2 {s0 : Int} {M : Mem} {Q : AR → Mem → Prop} : Tq 327 2 [vJ, vJ, vJ] [vI s0] M Q ↔ (Q (.inl (some (vI (nb s0)))) M) :=
  Tq_blk (is := bk_327_2) (dd := de_327) rfl rfl
/-- EarthOfficeModel uplift block at 0 -/
theorem t328_0_c20 {x1 x2 x3 x4 x5 s0 : Int} {M : Mem} {Q : AR → Mem → Prop} : Bq 328 de_328 (List.drop 20 bk_328_0) [vR 22 0, vI x1, vI x2, vI x3, vI x4, vI x5, vJ, vJ, vJ, vJ] [vI s0] M Q ↔ (if ¬ s0 = 0 then Tq 328 2 [vR 22 0, vI x1, vI x2, vI x3, vI x4, vI x5, vJ, vJ, vJ, vJ] [] M Q else Tq 328 1 [vJ, vJ, vJ, vJ, vJ, vJ, vJ, vJ, vJ, vJ] [] M Q) :=
  Iff.rfl
theorem t328_0_c15 {x1 x2 x3 x4 x5 s0 s1 : Int} {M : Mem} {Q : AR → Mem → Prop} : Bq 328 de_328 (List.drop 15 bk_328_0) [vR 22 0, vI x1, vI x2, vI x3, vI x4, vI x5, vJ, vJ, vJ, vJ] [vI s0, vI s1] M Q ↔ (if s1 < s0 then Tq 328 1 [vJ, vJ, vJ, vJ, vJ, vJ, vJ, vJ, vJ, vJ] [] M Q else Tq 189 0 [vI x5, vI (-5000), vI 5000] [] M (kI fun v1 M1 => if ¬ v1 = 0 then Tq 328 2 [vR 22 0, vI x1, vI x2, vI x3, vI x4, vI x5, vJ, vJ, vJ, vJ] [] M1 Q else Tq 328 1 [vJ, vJ, vJ, vJ, vJ, vJ, vJ, vJ, vJ, vJ] [] M1 Q)) :=
  (show Bq 328 de_328 (List.drop 15 bk_328_0) [vR 22 0, vI x1, vI x2, vI x3, vI x4, vI x5, vJ, vJ, vJ, vJ] [vI s0, vI s1] M Q ↔ (if s1 < s0 then Tq 328 1 [vJ, vJ, vJ, vJ, vJ, vJ, vJ, vJ, vJ, vJ] [] M Q else Tq 189 0 [vI x5, vI (-5000), vI 5000] [] M (kI fun v1 M1 => Bq 328 de_328 (List.drop 20 bk_328_0) [vR 22 0, vI x1, vI x2, vI x3, vI x4, vI x5, vJ, vJ, vJ, vJ] [vI v1] M1 Q)) from Iff.rfl).trans (by simp only [t328_0_c20])
theorem t328_0_c9 {x1 x2 x3 x4 x5 s0 : Int} {M : Mem} {Q : AR → Mem → Prop} : Bq 328 de_328 (List.drop 9 bk_328_0) [vR 22 0, vI x1, vI x2, vI x3, vI x4, vI x5, vJ, vJ, vJ, vJ] [vI s0] M Q ↔ (if s0 = 0 then Tq 328 1 [vJ, vJ, vJ, vJ, vJ, vJ, vJ, vJ, vJ, vJ] [] M Q else if x3 < x1 then Tq 328 1 [vJ, vJ, vJ, vJ, vJ, vJ, vJ, vJ, vJ, vJ] [] M Q else if x4 < x2 then Tq 328 1 [vJ, vJ, vJ, vJ, vJ, vJ, vJ, vJ, vJ, vJ] [] M Q else Tq 189 0 [vI x5, vI (-5000), vI 5000] [] M (kI fun v1 M1 => if ¬ v1 = 0 then Tq 328 2 [vR 22 0, vI x1, vI x2, vI x3, vI x4, vI x5, vJ, vJ, vJ, vJ] [] M1 Q else Tq 328 1 [vJ, vJ, vJ, vJ, vJ, vJ, vJ, vJ, vJ, vJ] [] M1 Q)) :=
  (show Bq 328 de_328 (List.drop 9 bk_328_0) [vR 22 0, vI x1, vI x2, vI x3, vI x4, vI x5, vJ, vJ, vJ, vJ] [vI s0] M Q ↔ (if s0 = 0 then Tq 328 1 [vJ, vJ, vJ, vJ, vJ, vJ, vJ, vJ, vJ, vJ] [] M Q else if x3 < x1 then Tq 328 1 [vJ, vJ, vJ, vJ, vJ, vJ, vJ, vJ, vJ, vJ] [] M Q else Bq 328 de_328 (List.drop 15 bk_328_0) [vR 22 0, vI x1, vI x2, vI x3, vI x4, vI x5, vJ, vJ, vJ, vJ] [vI x2, vI x4] M Q) from Iff.rfl).trans (by simp only [t328_0_c15])
theorem t328_0_c4 {x1 x2 x3 x4 x5 s0 : Int} {M : Mem} {Q : AR → Mem → Prop} : Bq 328 de_328 (List.drop 4 bk_328_0) [vR 22 0, vI x1, vI x2, vI x3, vI x4, vI x5, vJ, vJ, vJ, vJ] [vI s0] M Q ↔ (if s0 = 0 then Tq 328 1 [vJ, vJ, vJ, vJ, vJ, vJ, vJ, vJ, vJ, vJ] [] M Q else Tq 327 0 [vR 22 0, vI x3, vI x4] [] M (kI fun v1 M1 => if v1 = 0 then Tq 328 1 [vJ, vJ, vJ, vJ, vJ, vJ, vJ, vJ, vJ, vJ] [] M1 Q else if x3 < x1 then Tq 328 1 [vJ, vJ, vJ, vJ, vJ, vJ, vJ, vJ, vJ, vJ] [] M1 Q else if x4 < x2 then Tq 328 1 [vJ, vJ, vJ, vJ, vJ, vJ, vJ, vJ, vJ, vJ] [] M1 Q else Tq 189 0 [vI x5, vI (-5000), vI 5000] [] M1 (kI fun v2 M2 => if ¬ v2 = 0 then Tq 328 2 [vR 22 0, vI x1, vI x2, vI x3, vI x4, vI x5, vJ, vJ, vJ, vJ] [] M2 Q else Tq 328 1 [vJ, vJ, vJ, vJ, vJ, vJ, vJ, vJ, vJ, vJ] [] M2 Q))) :=
  (show Bq 328 de_328 (List.drop 4 bk_328_0) [vR 22 0, vI x1, vI x2, vI x3, vI x4, vI x5, vJ, vJ, vJ, vJ] [vI s0] M Q ↔ (if s0 = 0 then Tq 328 1 [vJ, vJ, vJ, vJ, vJ, vJ, vJ, vJ, vJ, vJ] [] M Q else Tq 327 0 [vR 22 0, vI x3, vI x4] [] M (kI fun v1 M1 => Bq 328 de_328 (List.drop 9 bk_328_0) [vR 22 0, vI x1, vI x2, vI x3, vI x4, vI x5, vJ, vJ, vJ, vJ] [vI v1] M1 Q)) from Iff.rfl).trans (by simp only [t328_0_c9])
theorem t328_0 {x1 x2 x3 x4 x5 : Int} {M : Mem} {Q : AR → Mem → Prop} : Tq 328 0 [vR 22 0, vI x1, vI x2, vI x3, vI x4, vI x5, vJ, vJ, vJ, vJ] [] M Q ↔ (Tq 327 0 [vR 22 0, vI x1, vI x2] [] M (kI fun v1 M1 => if v1 = 0 then Tq 328 1 [vJ, vJ, vJ, vJ, vJ, vJ, vJ, vJ, vJ, vJ] [] M1 Q else Tq 327 0 [vR 22 0, vI x3, vI x4] [] M1 (kI fun v2 M2 => if v2 = 0 then Tq 328 1 [vJ, vJ, vJ, vJ, vJ, vJ, vJ, vJ, vJ, vJ] [] M2 Q else if x3 < x1 then Tq 328 1 [vJ, vJ, vJ, vJ, vJ, vJ, vJ, vJ, vJ, vJ] [] M2 Q else if x4 < x2 then Tq 328 1 [vJ, vJ, vJ, vJ, vJ, vJ, vJ, vJ, vJ, vJ] [] M2 Q else Tq 189 0 [vI x5, vI (-5000), vI 5000] [] M2 (kI fun v3 M3 => if ¬ v3 = 0 then Tq 328 2 [vR 22 0, vI x1, vI x2, vI x3, vI x4, vI x5, vJ, vJ, vJ, vJ] [] M3 Q else Tq 328 1 [vJ, vJ, vJ, vJ, vJ, vJ, vJ, vJ, vJ, vJ] [] M3 Q)))) :=
  (show Tq 328 0 [vR 22 0, vI x1, vI x2, vI x3, vI x4, vI x5, vJ, vJ, vJ, vJ] [] M Q ↔ (Tq 327 0 [vR 22 0, vI x1, vI x2] [] M (kI fun v1 M1 => Bq 328 de_328 (List.drop 4 bk_328_0) [vR 22 0, vI x1, vI x2, vI x3, vI x4, vI x5, vJ, vJ, vJ, vJ] [vI v1] M1 Q)) from Tq_blk (is := bk_328_0) (dd := de_328) rfl rfl).trans (by simp only [t328_0_c4])
/-- EarthOfficeModel uplift block at 44 -/
theorem t328_1 {M : Mem} {Q : AR → Mem → Prop} : Tq 328 1 [vJ, vJ, vJ, vJ, vJ, vJ, vJ, vJ, vJ, vJ] [] M Q ↔ (Q (.inl (some (vI (-1)))) M) :=
  Tq_blk (is := bk_328_1) (dd := de_328) rfl rfl
/-- EarthOfficeModel uplift block at 46 -/
theorem t328_2 {x1 x2 x3 x4 x5 : Int} {M : Mem} {Q : AR → Mem → Prop} : Tq 328 2 [vR 22 0, vI x1, vI x2, vI x3, vI x4, vI x5, vJ, vJ, vJ, vJ] [] M Q ↔ (Tq 328 3 [vR 22 0, vI x1, vJ, vI x3, vI x4, vI x5, vI 0, vI x2, vJ, vJ] [] M Q) :=
  Tq_blk (is := bk_328_2) (dd := de_328) rfl rfl
/-- EarthOfficeModel uplift block at 52 -/
theorem t328_3 {x1 x3 x4 x5 x6 x7 : Int} {M : Mem} {Q : AR → Mem → Prop} : Tq 328 3 [vR 22 0, vI x1, vJ, vI x3, vI x4, vI x5, vI x6, vI x7, vJ, vJ] [] M Q ↔ (if x4 < x7 then Tq 328 7 [vJ, vJ, vJ, vJ, vJ, vJ, vI x6, vJ, vJ, vJ] [] M Q else Tq 328 4 [vR 22 0, vI x1, vJ, vI x3, vI x4, vI x5, vI x6, vI x7, vI x1, vJ] [] M Q) :=
  Tq_blk (is := bk_328_3) (dd := de_328) rfl rfl
/-- EarthOfficeModel uplift block at 62 -/
theorem t328_4_c27 {x1 x3 x4 x5 x6 x7 x8 x9 s0 s1 : Int} {M : Mem} {Q : AR → Mem → Prop} : Bq 328 de_328 (List.drop 27 bk_328_4) [vR 22 0, vI x1, vJ, vI x3, vI x4, vI x5, vI x6, vI x7, vI x8, vI x9] [vI s0, vI s1, vR 22053 0] M Q ↔ (((0 : Int) ≤ s1 ∧ s1 < 1024) ∧ bd (mset M 22053 0 s1 s0) fun M1 => Tq 328 5 [vR 22 0, vI x1, vJ, vI x3, vI x4, vI x5, vI (w32 (x6 + 1)), vI x7, vI x8, vJ] [] M1 Q) :=
  Iff.rfl
theorem t328_4_c26 {x1 x3 x4 x5 x6 x7 x8 x9 s0 s1 s2 : Int} {M : Mem} {Q : AR → Mem → Prop} : Bq 328 de_328 (List.drop 26 bk_328_4) [vR 22 0, vI x1, vJ, vI x3, vI x4, vI x5, vI x6, vI x7, vI x8, vI x9] [vI s0, vI s1, vI s2, vR 22053 0] M Q ↔ (Tq 8 0 [vI s1, vI s0] [] M (kI fun v1 M1 => ((0 : Int) ≤ s2 ∧ s2 < 1024) ∧ bd (mset M1 22053 0 s2 v1) fun M2 => Tq 328 5 [vR 22 0, vI x1, vJ, vI x3, vI x4, vI x5, vI (w32 (x6 + 1)), vI x7, vI x8, vJ] [] M2 Q)) :=
  (show Bq 328 de_328 (List.drop 26 bk_328_4) [vR 22 0, vI x1, vJ, vI x3, vI x4, vI x5, vI x6, vI x7, vI x8, vI x9] [vI s0, vI s1, vI s2, vR 22053 0] M Q ↔ (Tq 8 0 [vI s1, vI s0] [] M (kI fun v1 M1 => Bq 328 de_328 (List.drop 27 bk_328_4) [vR 22 0, vI x1, vJ, vI x3, vI x4, vI x5, vI x6, vI x7, vI x8, vI x9] [vI v1, vI s2, vR 22053 0] M1 Q)) from Iff.rfl).trans (by simp only [t328_4_c27])
theorem t328_4_c24 {x1 x3 x4 x5 x6 x7 x8 x9 s0 s1 s2 s3 s4 : Int} {M : Mem} {Q : AR → Mem → Prop} : Bq 328 de_328 (List.drop 24 bk_328_4) [vR 22 0, vI x1, vJ, vI x3, vI x4, vI x5, vI x6, vI x7, vI x8, vI x9] [vI s0, vI s1, vI s2, vI s3, vI s4, vR 22053 0] M Q ↔ (Tq 9 0 [vI s2, vI (w32 (s1 + s0))] [] M (kI fun v1 M1 => Tq 8 0 [vI s3, vI v1] [] M1 (kI fun v2 M2 => ((0 : Int) ≤ s4 ∧ s4 < 1024) ∧ bd (mset M2 22053 0 s4 v2) fun M3 => Tq 328 5 [vR 22 0, vI x1, vJ, vI x3, vI x4, vI x5, vI (w32 (x6 + 1)), vI x7, vI x8, vJ] [] M3 Q))) :=
  (show Bq 328 de_328 (List.drop 24 bk_328_4) [vR 22 0, vI x1, vJ, vI x3, vI x4, vI x5, vI x6, vI x7, vI x8, vI x9] [vI s0, vI s1, vI s2, vI s3, vI s4, vR 22053 0] M Q ↔ (Tq 9 0 [vI s2, vI (w32 (s1 + s0))] [] M (kI fun v1 M1 => Bq 328 de_328 (List.drop 26 bk_328_4) [vR 22 0, vI x1, vJ, vI x3, vI x4, vI x5, vI x6, vI x7, vI x8, vI x9] [vI v1, vI s3, vI s4, vR 22053 0] M1 Q)) from Iff.rfl).trans (by simp only [t328_4_c26])
theorem t328_4_c18 {x1 x3 x4 x5 x6 x7 x8 x9 s0 s1 : Int} {M : Mem} {Q : AR → Mem → Prop} : Bq 328 de_328 (List.drop 18 bk_328_4) [vR 22 0, vI x1, vJ, vI x3, vI x4, vI x5, vI x6, vI x7, vI x8, vI x9] [vI s0, vI s1, vR 22053 0] M Q ↔ (((0 : Int) ≤ x9 ∧ x9 < 1024) ∧ Tq 9 0 [vI 0, vI (w32 (M 22053 0 x9 + x5))] [] M (kI fun v1 M1 => Tq 8 0 [vI s0, vI v1] [] M1 (kI fun v2 M2 => ((0 : Int) ≤ s1 ∧ s1 < 1024) ∧ bd (mset M2 22053 0 s1 v2) fun M3 => Tq 328 5 [vR 22 0, vI x1, vJ, vI x3, vI x4, vI x5, vI (w32 (x6 + 1)), vI x7, vI x8, vJ] [] M3 Q))) :=
  (show Bq 328 de_328 (List.drop 18 bk_328_4) [vR 22 0, vI x1, vJ, vI x3, vI x4, vI x5, vI x6, vI x7, vI x8, vI x9] [vI s0, vI s1, vR 22053 0] M Q ↔ (((0 : Int) ≤ x9 ∧ x9 < 1024) ∧ Bq 328 de_328 (List.drop 24 bk_328_4) [vR 22 0, vI x1, vJ, vI x3, vI x4, vI x5, vI x6, vI x7, vI x8, vI x9] [vI x5, vI (M 22053 0 x9), vI 0, vI s0, vI s1, vR 22053 0] M Q) from Iff.rfl).trans (by simp only [t328_4_c24])
theorem t328_4_c12 {x1 x3 x4 x5 x6 x7 x8 x9 s0 : Int} {M : Mem} {Q : AR → Mem → Prop} : Bq 328 de_328 (List.drop 12 bk_328_4) [vR 22 0, vI x1, vJ, vI x3, vI x4, vI x5, vI x6, vI x7, vI x8, vI x9] [vI s0, vR 22053 0] M Q ↔ (((0 : Int) ≤ s0 ∧ s0 < 1024) ∧ if M 22053 0 s0 ≤ 0 then Tq 328 5 [vR 22 0, vI x1, vJ, vI x3, vI x4, vI x5, vI x6, vI x7, vI x8, vJ] [] M Q else ((0 : Int) ≤ x9 ∧ x9 < 1024) ∧ Tq 9 0 [vI 0, vI (w32 (M 22053 0 x9 + x5))] [] M (kI fun v1 M1 => Tq 8 0 [vI 60000, vI v1] [] M1 (kI fun v2 M2 => ((0 : Int) ≤ x9 ∧ x9 < 1024) ∧ bd (mset M2 22053 0 x9 v2) fun M3 => Tq 328 5 [vR 22 0, vI x1, vJ, vI x3, vI x4, vI x5, vI (w32 (x6 + 1)), vI x7, vI x8, vJ] [] M3 Q))) :=
  (show Bq 328 de_328 (List.drop 12 bk_328_4) [vR 22 0, vI x1, vJ, vI x3, vI x4, vI x5, vI x6, vI x7, vI x8, vI x9] [vI s0, vR 22053 0] M Q ↔ (((0 : Int) ≤ s0 ∧ s0 < 1024) ∧ if M 22053 0 s0 ≤ 0 then Tq 328 5 [vR 22 0, vI x1, vJ, vI x3, vI x4, vI x5, vI x6, vI x7, vI x8, vJ] [] M Q else Bq 328 de_328 (List.drop 18 bk_328_4) [vR 22 0, vI x1, vJ, vI x3, vI x4, vI x5, vI x6, vI x7, vI x8, vI x9] [vI 60000, vI x9, vR 22053 0] M Q) from Iff.rfl).trans (by simp only [t328_4_c18])
theorem t328_4_c6 {x1 x3 x4 x5 x6 x7 x8 s0 : Int} {M : Mem} {Q : AR → Mem → Prop} : Bq 328 de_328 (List.drop 6 bk_328_4) [vR 22 0, vI x1, vJ, vI x3, vI x4, vI x5, vI x6, vI x7, vI x8, vJ] [vI s0] M Q ↔ (((0 : Int) ≤ w32 (s0 + x8) ∧ w32 (s0 + x8) < 1024) ∧ if M 22053 0 (w32 (s0 + x8)) ≤ 0 then Tq 328 5 [vR 22 0, vI x1, vJ, vI x3, vI x4, vI x5, vI x6, vI x7, vI x8, vJ] [] M Q else ((0 : Int) ≤ w32 (s0 + x8) ∧ w32 (s0 + x8) < 1024) ∧ Tq 9 0 [vI 0, vI (w32 (M 22053 0 (w32 (s0 + x8)) + x5))] [] M (kI fun v1 M1 => Tq 8 0 [vI 60000, vI v1] [] M1 (kI fun v2 M2 => ((0 : Int) ≤ w32 (s0 + x8) ∧ w32 (s0 + x8) < 1024) ∧ bd (mset M2 22053 0 (w32 (s0 + x8)) v2) fun M3 => Tq 328 5 [vR 22 0, vI x1, vJ, vI x3, vI x4, vI x5, vI (w32 (x6 + 1)), vI x7, vI x8, vJ] [] M3 Q))) :=
  (show Bq 328 de_328 (List.drop 6 bk_328_4) [vR 22 0, vI x1, vJ, vI x3, vI x4, vI x5, vI x6, vI x7, vI x8, vJ] [vI s0] M Q ↔ (Bq 328 de_328 (List.drop 12 bk_328_4) [vR 22 0, vI x1, vJ, vI x3, vI x4, vI x5, vI x6, vI x7, vI x8, vI (w32 (s0 + x8))] [vI (w32 (s0 + x8)), vR 22053 0] M Q) from Iff.rfl).trans (by simp only [t328_4_c12])
theorem t328_4 {x1 x3 x4 x5 x6 x7 x8 : Int} {M : Mem} {Q : AR → Mem → Prop} : Tq 328 4 [vR 22 0, vI x1, vJ, vI x3, vI x4, vI x5, vI x6, vI x7, vI x8, vJ] [] M Q ↔ (if x3 < x8 then Tq 328 6 [vR 22 0, vI x1, vJ, vI x3, vI x4, vI x5, vI x6, vI x7, vJ, vJ] [] M Q else ((0 : Int) ≤ w32 (w32 (32 * x7) + x8) ∧ w32 (w32 (32 * x7) + x8) < 1024) ∧ if M 22053 0 (w32 (w32 (32 * x7) + x8)) ≤ 0 then Tq 328 5 [vR 22 0, vI x1, vJ, vI x3, vI x4, vI x5, vI x6, vI x7, vI x8, vJ] [] M Q else ((0 : Int) ≤ w32 (w32 (32 * x7) + x8) ∧ w32 (w32 (32 * x7) + x8) < 1024) ∧ Tq 9 0 [vI 0, vI (w32 (M 22053 0 (w32 (w32 (32 * x7) + x8)) + x5))] [] M (kI fun v1 M1 => Tq 8 0 [vI 60000, vI v1] [] M1 (kI fun v2 M2 => ((0 : Int) ≤ w32 (w32 (32 * x7) + x8) ∧ w32 (w32 (32 * x7) + x8) < 1024) ∧ bd (mset M2 22053 0 (w32 (w32 (32 * x7) + x8)) v2) fun M3 => Tq 328 5 [vR 22 0, vI x1, vJ, vI x3, vI x4, vI x5, vI (w32 (x6 + 1)), vI x7, vI x8, vJ] [] M3 Q))) :=
  (show Tq 328 4 [vR 22 0, vI x1, vJ, vI x3, vI x4, vI x5, vI x6, vI x7, vI x8, vJ] [] M Q ↔ (if x3 < x8 then Tq 328 6 [vR 22 0, vI x1, vJ, vI x3, vI x4, vI x5, vI x6, vI x7, vJ, vJ] [] M Q else Bq 328 de_328 (List.drop 6 bk_328_4) [vR 22 0, vI x1, vJ, vI x3, vI x4, vI x5, vI x6, vI x7, vI x8, vJ] [vI (w32 (32 * x7))] M Q) from Tq_blk (is := bk_328_4) (dd := de_328) rfl rfl).trans (by simp only [t328_4_c6])
/-- EarthOfficeModel uplift block at 117 -/
theorem t328_5 {x1 x3 x4 x5 x6 x7 x8 : Int} {M : Mem} {Q : AR → Mem → Prop} : Tq 328 5 [vR 22 0, vI x1, vJ, vI x3, vI x4, vI x5, vI x6, vI x7, vI x8, vJ] [] M Q ↔ (Tq 328 4 [vR 22 0, vI x1, vJ, vI x3, vI x4, vI x5, vI x6, vI x7, vI (w32 (x8 + 1)), vJ] [] M Q) :=
  Tq_blk (is := bk_328_5) (dd := de_328) rfl rfl
/-- EarthOfficeModel uplift block at 123 -/
theorem t328_6 {x1 x3 x4 x5 x6 x7 : Int} {M : Mem} {Q : AR → Mem → Prop} : Tq 328 6 [vR 22 0, vI x1, vJ, vI x3, vI x4, vI x5, vI x6, vI x7, vJ, vJ] [] M Q ↔ (Tq 328 3 [vR 22 0, vI x1, vJ, vI x3, vI x4, vI x5, vI x6, vI (w32 (x7 + 1)), vJ, vJ] [] M Q) :=
  Tq_blk (is := bk_328_6) (dd := de_328) rfl rfl
/-- EarthOfficeModel uplift block at 129 -/
theorem t328_7 {x6 : Int} {M : Mem} {Q : AR → Mem → Prop} : Tq 328 7 [vJ, vJ, vJ, vJ, vJ, vJ, vI x6, vJ, vJ, vJ] [] M Q ↔ (Q (.inl (some (vI x6))) M) :=
  Tq_blk (is := bk_328_7) (dd := de_328) rfl rfl
/-- EarthOfficeModel steps block at 0 -/
theorem t329_0 {x1 : Int} {M : Mem} {Q : AR → Mem → Prop} : Tq 329 0 [vR 22 0, vI x1, vJ, vJ, vJ] [] M Q ↔ (Tq 189 0 [vI x1, vI 1, vI 100] [] M (kI fun v1 M1 => if ¬ v1 = 0 then Tq 329 1 [vR 22 0, vI x1, vJ, vJ, vJ] [] M1 Q else Q (.inl (some (vI (-1)))) M1)) :=
  Tq_blk (is := bk_329_0) (dd := de_329) rfl rfl
/-- EarthOfficeModel steps block at 12 -/
theorem t329_1 {x1 : Int} {M : Mem} {Q : AR → Mem → Prop} : Tq 329 1 [vR 22 0, vI x1, vJ, vJ, vJ] [] M Q ↔ (Tq 329 2 [vR 22 0, vI x1, vI 0, vJ, vJ] [] M Q) :=
  Tq_blk (is := bk_329_1) (dd := de_329) rfl rfl
/-- EarthOfficeModel steps block at 14 -/
theorem t329_2 {x1 x2 : Int} {M : Mem} {Q : AR → Mem → Prop} : Tq 329 2 [vR 22 0, vI x1, vI x2, vJ, vJ] [] M Q ↔ (if x1 ≤ x2 then Tq 329 11 [vJ, vJ, vI x2, vJ, vJ] [] M Q else Tq 330 0 [vR 22 0, vJ, vJ] [] M (kI fun v1 M1 => if v1 = 0 then Tq 329 11 [vJ, vJ, vI x2, vJ, vJ] [] M1 Q else Tq 329 3 [vR 22 0, vI x1, vI x2, vI 0, vJ] [] M1 Q)) :=
  Tq_blk (is := bk_329_2) (dd := de_329) rfl rfl
/-- EarthOfficeModel steps block at 28 -/
theorem t329_3 {x1 x2 x3 : Int} {M : Mem} {Q : AR → Mem → Prop} : Tq 329 3 [vR 22 0, vI x1, vI x2, vI x3, vJ] [] M Q ↔ (if M 22 0 51 ≤ x3 then Tq 329 8 [vR 22 0, vI x1, vI x2, vJ, vJ] [] M Q else Tq 329 4 [vR 22 0, vI x1, vI x2, vI x3, vI 0] [] M Q) :=
  Tq_blk (is := bk_329_3) (dd := de_329) rfl rfl
/-- EarthOfficeModel steps block at 39 -/
theorem t329_4 {x1 x2 x3 x4 : Int} {M : Mem} {Q : AR → Mem → Prop} : Tq 329 4 [vR 22 0, vI x1, vI x2, vI x3, vI x4] [] M Q ↔ (if M 22 0 50 ≤ x4 then Tq 329 7 [vR 22 0, vI x1, vI x2, vI x3, vJ] [] M Q else if M 22 0 50 ≤ w32 (x4 + 1) then Tq 329 5 [vR 22 0, vI x1, vI x2, vI x3, vI x4] [] M Q else Tq 331 0 [vR 22 0, vI (w32 (w32 (32 * x3) + x4)), vI (w32 (w32 (w32 (32 * x3) + x4) + 1)), vI (w32 (w32 (32 * x3) + x4)), vJ, vJ, vJ, vJ, vJ, vJ] [] M (kV fun M1 => Tq 329 5 [vR 22 0, vI x1, vI x2, vI x3, vI x4] [] M1 Q)) :=
  Tq_blk (is := bk_329_4) (dd := de_329) rfl rfl
/-- EarthOfficeModel steps block at 86 -/
theorem t329_5 {x1 x2 x3 x4 : Int} {M : Mem} {Q : AR → Mem → Prop} : Tq 329 5 [vR 22 0, vI x1, vI x2, vI x3, vI x4] [] M Q ↔ (if M 22 0 51 ≤ w32 (x3 + 1) then Tq 329 6 [vR 22 0, vI x1, vI x2, vI x3, vI x4] [] M Q else Tq 331 0 [vR 22 0, vI (w32 (w32 (32 * x3) + x4)), vI (w32 (w32 (w32 (32 * x3) + x4) + 32)), vI (w32 (w32 (1024 + w32 (32 * x3)) + x4)), vJ, vJ, vJ, vJ, vJ, vJ] [] M (kV fun M1 => Tq 329 6 [vR 22 0, vI x1, vI x2, vI x3, vI x4] [] M1 Q)) :=
  Tq_blk (is := bk_329_5) (dd := de_329) rfl rfl
/-- EarthOfficeModel steps block at 128 -/
theorem t329_6 {x1 x2 x3 x4 : Int} {M : Mem} {Q : AR → Mem → Prop} : Tq 329 6 [vR 22 0, vI x1, vI x2, vI x3, vI x4] [] M Q ↔ (Tq 329 4 [vR 22 0, vI x1, vI x2, vI x3, vI (w32 (x4 + 1))] [] M Q) :=
  Tq_blk (is := bk_329_6) (dd := de_329) rfl rfl
/-- EarthOfficeModel steps block at 134 -/
theorem t329_7 {x1 x2 x3 : Int} {M : Mem} {Q : AR → Mem → Prop} : Tq 329 7 [vR 22 0, vI x1, vI x2, vI x3, vJ] [] M Q ↔ (Tq 329 3 [vR 22 0, vI x1, vI x2, vI (w32 (x3 + 1)), vJ] [] M Q) :=
  Tq_blk (is := bk_329_7) (dd := de_329) rfl rfl
/-- EarthOfficeModel steps block at 140 -/
theorem t329_8 {x1 x2 : Int} {M : Mem} {Q : AR → Mem → Prop} : Tq 329 8 [vR 22 0, vI x1, vI x2, vJ, vJ] [] M Q ↔ (Tq 329 9 [vR 22 0, vI x1, vI x2, vI 0, vJ] [] M Q) :=
  Tq_blk (is := bk_329_8) (dd := de_329) rfl rfl
/-- EarthOfficeModel steps block at 142 -/
theorem t329_9 {x1 x2 x3 : Int} {M : Mem} {Q : AR → Mem → Prop} : Tq 329 9 [vR 22 0, vI x1, vI x2, vI x3, vJ] [] M Q ↔ (if (1024 : Int) ≤ x3 then Tq 329 10 [vR 22 0, vI x1, vI x2, vJ, vJ] [] M Q else ((0 : Int) ≤ x3 ∧ x3 < 1024) ∧ ((0 : Int) ≤ x3 ∧ x3 < 1024) ∧ ((0 : Int) ≤ x3 ∧ x3 < 1024) ∧ Tq 9 0 [vI (M 22054 0 x3), vI (w32 (M 22053 0 x3 - (M 22052 0 x3)))] [] M (kI fun v1 M1 => ((0 : Int) ≤ x3 ∧ x3 < 1024) ∧ bd (mset M1 22054 0 x3 v1) fun M2 => Tq 329 9 [vR 22 0, vI x1, vI x2, vI (w32 (x3 + 1)), vJ] [] M2 Q)) :=
  Tq_blk (is := bk_329_9) (dd := de_329) rfl rfl
/-- EarthOfficeModel steps block at 183 -/
theorem t329_10 {x1 x2 : Int} {M : Mem} {Q : AR → Mem → Prop} : Tq 329 10 [vR 22 0, vI x1, vI x2, vJ, vJ] [] M Q ↔ (Tq 329 2 [vR 22 0, vI x1, vI (w32 (x2 + 1)), vJ, vJ] [] M Q) :=
  Tq_blk (is := bk_329_10) (dd := de_329) rfl rfl
/-- EarthOfficeModel steps block at 189 -/
theorem t329_11 {x2 : Int} {M : Mem} {Q : AR → Mem → Prop} : Tq 329 11 [vJ, vJ, vI x2, vJ, vJ] [] M Q ↔ (Q (.inl (some (vI x2))) M) :=
  Tq_blk (is := bk_329_11) (dd := de_329) rfl rfl
/-- EarthOfficeModel isCalm block at 0 -/
theorem t330_0 {M : Mem} {Q : AR → Mem → Prop} : Tq 330 0 [vR 22 0, vJ, vJ] [] M Q ↔ (Tq 330 1 [vR 22 0, vI 1, vI 0] [] M Q) :=
  Tq_blk (is := bk_330_0) (dd := de_330) rfl rfl
/-- EarthOfficeModel isCalm block at 4 -/
theorem t330_1 {x1 x2 : Int} {M : Mem} {Q : AR → Mem → Prop} : Tq 330 1 [vR 22 0, vI x1, vI x2] [] M Q ↔ (if (1024 : Int) ≤ x2 then Tq 330 4 [vJ, vI x1, vJ] [] M Q else ((0 : Int) ≤ x2 ∧ x2 < 1024) ∧ if (16000 : Int) < M 22053 0 x2 then Tq 330 2 [vR 22 0, vJ, vI x2] [vI x1] M Q else Tq 330 3 [vR 22 0, vJ, vI x2] [vI 1, vI x1] M Q) :=
  Tq_blk (is := bk_330_1) (dd := de_330) rfl rfl
/-- EarthOfficeModel isCalm block at 28 -/
theorem t330_2 {x2 s0 : Int} {M : Mem} {Q : AR → Mem → Prop} : Tq 330 2 [vR 22 0, vJ, vI x2] [vI s0] M Q ↔ (Tq 330 3 [vR 22 0, vJ, vI x2] [vI 0, vI s0] M Q) :=
  Tq_blk (is := bk_330_2) (dd := de_330) rfl rfl
/-- EarthOfficeModel isCalm block at 29 -/
theorem t330_3 {x2 s0 s1 : Int} {M : Mem} {Q : AR → Mem → Prop} : Tq 330 3 [vR 22 0, vJ, vI x2] [vI s0, vI s1] M Q ↔ (Tq 330 1 [vR 22 0, vI (and32 s1 s0), vI (w32 (x2 + 1))] [] M Q) :=
  Tq_blk (is := bk_330_3) (dd := de_330) rfl rfl
/-- EarthOfficeModel isCalm block at 37 -/
theorem t330_4 {x1 : Int} {M : Mem} {Q : AR → Mem → Prop} : Tq 330 4 [vJ, vI x1, vJ] [] M Q ↔ (Q (.inl (some (vI (nb x1)))) M) :=
  Tq_blk (is := bk_330_4) (dd := de_330) rfl rfl
/-- EarthOfficeModel flows block at 0 -/
theorem t331_0_c89 {x1 x2 x3 x4 x6 x8 : Int} {M : Mem} {Q : AR → Mem → Prop} : Bq 331 de_331 (List.drop 89 bk_331_0) [vR 22 0, vI x1, vI x2, vI x3, vL x4, vJ, vL x6, vJ, vL x8, vJ] [vR 22053 0] M Q ↔ (((0 : Int) ≤ x2 ∧ x2 < 1024) ∧ ((0 : Int) ≤ x2 ∧ x2 < 1024) ∧ bd (mset M 22053 0 x2 (w32 (M 22053 0 x2 + w32 x8))) fun M1 => Q (.inl none) M1) :=
  Iff.rfl
theorem t331_0_c83 {x1 x2 x3 x4 x6 x8 s0 s1 : Int} {M : Mem} {Q : AR → Mem → Prop} : Bq 331 de_331 (List.drop 83 bk_331_0) [vR 22 0, vI x1, vI x2, vI x3, vL x4, vJ, vL x6, vJ, vL x8, vJ] [vI s0, vI s1, vR 22053 0] M Q ↔ (((0 : Int) ≤ s1 ∧ s1 < 1024) ∧ bd (mset M 22053 0 s1 (w32 (s0 - (w32 x8)))) fun M1 => ((0 : Int) ≤ x2 ∧ x2 < 1024) ∧ ((0 : Int) ≤ x2 ∧ x2 < 1024) ∧ bd (mset M1 22053 0 x2 (w32 (M1 22053 0 x2 + w32 x8))) fun M2 => Q (.inl none) M2) :=
  (show Bq 331 de_331 (List.drop 83 bk_331_0) [vR 22 0, vI x1, vI x2, vI x3, vL x4, vJ, vL x6, vJ, vL x8, vJ] [vI s0, vI s1, vR 22053 0] M Q ↔ (((0 : Int) ≤ s1 ∧ s1 < 1024) ∧ bd (mset M 22053 0 s1 (w32 (s0 - (w32 x8)))) fun M1 => Bq 331 de_331 (List.drop 89 bk_331_0) [vR 22 0, vI x1, vI x2, vI x3, vL x4, vJ, vL x6, vJ, vL x8, vJ] [vR 22053 0] M1 Q) from Iff.rfl).trans (by simp only [t331_0_c89])
theorem t331_0_c77 {x1 x2 x3 x4 x6 x8 s0 s1 : Int} {M : Mem} {Q : AR → Mem → Prop} : Bq 331 de_331 (List.drop 77 bk_331_0) [vR 22 0, vI x1, vI x2, vI x3, vL x4, vJ, vL x6, vJ, vL x8, vJ] [vI s0, vI s1, vR 22055 0] M Q ↔ (((0 : Int) ≤ s1 ∧ s1 < 2048) ∧ bd (mset M 22055 0 s1 s0) fun M1 => ((0 : Int) ≤ x1 ∧ x1 < 1024) ∧ ((0 : Int) ≤ x1 ∧ x1 < 1024) ∧ bd (mset M1 22053 0 x1 (w32 (M1 22053 0 x1 - (w32 x8)))) fun M2 => ((0 : Int) ≤ x2 ∧ x2 < 1024) ∧ ((0 : Int) ≤ x2 ∧ x2 < 1024) ∧ bd (mset M2 22053 0 x2 (w32 (M2 22053 0 x2 + w32 x8))) fun M3 => Q (.inl none) M3) :=
  (show Bq 331 de_331 (List.drop 77 bk_331_0) [vR 22 0, vI x1, vI x2, vI x3, vL x4, vJ, vL x6, vJ, vL x8, vJ] [vI s0, vI s1, vR 22055 0] M Q ↔ (((0 : Int) ≤ s1 ∧ s1 < 2048) ∧ bd (mset M 22055 0 s1 s0) fun M1 => ((0 : Int) ≤ x1 ∧ x1 < 1024) ∧ Bq 331 de_331 (List.drop 83 bk_331_0) [vR 22 0, vI x1, vI x2, vI x3, vL x4, vJ, vL x6, vJ, vL x8, vJ] [vI (M1 22053 0 x1), vI x1, vR 22053 0] M1 Q) from Iff.rfl).trans (by simp only [t331_0_c83])
theorem t331_0_c71 {x1 x2 x3 x4 x6 x8 s0 : Int} {M : Mem} {Q : AR → Mem → Prop} : Bq 331 de_331 (List.drop 71 bk_331_0) [vR 22 0, vI x1, vI x2, vI x3, vL x4, vJ, vL x6, vJ, vL x8, vJ] [vL s0] M Q ↔ (((0 : Int) ≤ x3 ∧ x3 < 2048) ∧ bd (mset M 22055 0 x3 (w32 s0)) fun M1 => ((0 : Int) ≤ x1 ∧ x1 < 1024) ∧ ((0 : Int) ≤ x1 ∧ x1 < 1024) ∧ bd (mset M1 22053 0 x1 (w32 (M1 22053 0 x1 - (w32 s0)))) fun M2 => ((0 : Int) ≤ x2 ∧ x2 < 1024) ∧ ((0 : Int) ≤ x2 ∧ x2 < 1024) ∧ bd (mset M2 22053 0 x2 (w32 (M2 22053 0 x2 + w32 s0))) fun M3 => Q (.inl none) M3) :=
  (show Bq 331 de_331 (List.drop 71 bk_331_0) [vR 22 0, vI x1, vI x2, vI x3, vL x4, vJ, vL x6, vJ, vL x8, vJ] [vL s0] M Q ↔ (Bq 331 de_331 (List.drop 77 bk_331_0) [vR 22 0, vI x1, vI x2, vI x3, vL x4, vJ, vL x6, vJ, vL s0, vJ] [vI (w32 s0), vI x3, vR 22055 0] M Q) from Iff.rfl).trans (by simp only [t331_0_c77])
theorem t331_0_c70 {x1 x2 x3 x4 x6 x8 s0 s1 : Int} {M : Mem} {Q : AR → Mem → Prop} : Bq 331 de_331 (List.drop 70 bk_331_0) [vR 22 0, vI x1, vI x2, vI x3, vL x4, vJ, vL x6, vJ, vL x8, vJ] [vL s0, vL s1] M Q ↔ (Tq 12 0 [vL s1, vJ, vL s0, vJ] [] M (kL fun v1 M1 => ((0 : Int) ≤ x3 ∧ x3 < 2048) ∧ bd (mset M1 22055 0 x3 (w32 v1)) fun M2 => ((0 : Int) ≤ x1 ∧ x1 < 1024) ∧ ((0 : Int) ≤ x1 ∧ x1 < 1024) ∧ bd (mset M2 22053 0 x1 (w32 (M2 22053 0 x1 - (w32 v1)))) fun M3 => ((0 : Int) ≤ x2 ∧ x2 < 1024) ∧ ((0 : Int) ≤ x2 ∧ x2 < 1024) ∧ bd (mset M3 22053 0 x2 (w32 (M3 22053 0 x2 + w32 v1))) fun M4 => Q (.inl none) M4)) :=
  (show Bq 331 de_331 (List.drop 70 bk_331_0) [vR 22 0, vI x1, vI x2, vI x3, vL x4, vJ, vL x6, vJ, vL x8, vJ] [vL s0, vL s1] M Q ↔ (Tq 12 0 [vL s1, vJ, vL s0, vJ] [] M (kL fun v1 M1 => Bq 331 de_331 (List.drop 71 bk_331_0) [vR 22 0, vI x1, vI x2, vI x3, vL x4, vJ, vL x6, vJ, vL x8, vJ] [vL v1] M1 Q)) from Iff.rfl).trans (by simp only [t331_0_c71])
theorem t331_0_c68 {x1 x2 x3 x4 x6 x8 s0 s1 : Int} {M : Mem} {Q : AR → Mem → Prop} : Bq 331 de_331 (List.drop 68 bk_331_0) [vR 22 0, vI x1, vI x2, vI x3, vL x4, vJ, vL x6, vJ, vL x8, vJ] [vL s0, vL s1] M Q ↔ (Tq 11 0 [vL s0, vJ, vL x8, vJ] [] M (kL fun v1 M1 => Tq 12 0 [vL s1, vJ, vL v1, vJ] [] M1 (kL fun v2 M2 => ((0 : Int) ≤ x3 ∧ x3 < 2048) ∧ bd (mset M2 22055 0 x3 (w32 v2)) fun M3 => ((0 : Int) ≤ x1 ∧ x1 < 1024) ∧ ((0 : Int) ≤ x1 ∧ x1 < 1024) ∧ bd (mset M3 22053 0 x1 (w32 (M3 22053 0 x1 - (w32 v2)))) fun M4 => ((0 : Int) ≤ x2 ∧ x2 < 1024) ∧ ((0 : Int) ≤ x2 ∧ x2 < 1024) ∧ bd (mset M4 22053 0 x2 (w32 (M4 22053 0 x2 + w32 v2))) fun M5 => Q (.inl none) M5))) :=
  (show Bq 331 de_331 (List.drop 68 bk_331_0) [vR 22 0, vI x1, vI x2, vI x3, vL x4, vJ, vL x6, vJ, vL x8, vJ] [vL s0, vL s1] M Q ↔ (Tq 11 0 [vL s0, vJ, vL x8, vJ] [] M (kL fun v1 M1 => Bq 331 de_331 (List.drop 70 bk_331_0) [vR 22 0, vI x1, vI x2, vI x3, vL x4, vJ, vL x6, vJ, vL x8, vJ] [vL v1, vL s1] M1 Q)) from Iff.rfl).trans (by simp only [t331_0_c70])
theorem t331_0_c62 {x1 x2 x3 x4 x6 x8 s1 : Int} {M : Mem} {Q : AR → Mem → Prop} : Bq 331 de_331 (List.drop 62 bk_331_0) [vR 22 0, vI x1, vI x2, vI x3, vL x4, vJ, vL x6, vJ, vL x8, vJ] [vR 22 0, vL s1] M Q ↔ (((0 : Int) ≤ x1 ∧ x1 < 1024) ∧ (¬ (4 : Int) = 0) ∧ Tq 11 0 [vL (div32 (M 22053 0 x1) 4), vJ, vL x8, vJ] [] M (kL fun v1 M1 => Tq 12 0 [vL s1, vJ, vL v1, vJ] [] M1 (kL fun v2 M2 => ((0 : Int) ≤ x3 ∧ x3 < 2048) ∧ bd (mset M2 22055 0 x3 (w32 v2)) fun M3 => ((0 : Int) ≤ x1 ∧ x1 < 1024) ∧ ((0 : Int) ≤ x1 ∧ x1 < 1024) ∧ bd (mset M3 22053 0 x1 (w32 (M3 22053 0 x1 - (w32 v2)))) fun M4 => ((0 : Int) ≤ x2 ∧ x2 < 1024) ∧ ((0 : Int) ≤ x2 ∧ x2 < 1024) ∧ bd (mset M4 22053 0 x2 (w32 (M4 22053 0 x2 + w32 v2))) fun M5 => Q (.inl none) M5))) :=
  (show Bq 331 de_331 (List.drop 62 bk_331_0) [vR 22 0, vI x1, vI x2, vI x3, vL x4, vJ, vL x6, vJ, vL x8, vJ] [vR 22 0, vL s1] M Q ↔ (((0 : Int) ≤ x1 ∧ x1 < 1024) ∧ (¬ (4 : Int) = 0) ∧ Bq 331 de_331 (List.drop 68 bk_331_0) [vR 22 0, vI x1, vI x2, vI x3, vL x4, vJ, vL x6, vJ, vL x8, vJ] [vL (div32 (M 22053 0 x1) 4), vL s1] M Q) from Iff.rfl).trans (by simp only [t331_0_c68])
theorem t331_0_c56 {x1 x2 x3 x4 x6 x8 s0 : Int} {M : Mem} {Q : AR → Mem → Prop} : Bq 331 de_331 (List.drop 56 bk_331_0) [vR 22 0, vI x1, vI x2, vI x3, vL x4, vJ, vL x6, vJ, vL x8, vJ] [vI s0, vR 22053 0] M Q ↔ (((0 : Int) ≤ s0 ∧ s0 < 1024) ∧ (¬ (4 : Int) = 0) ∧ ((0 : Int) ≤ x1 ∧ x1 < 1024) ∧ (¬ (4 : Int) = 0) ∧ Tq 11 0 [vL (div32 (M 22053 0 x1) 4), vJ, vL x8, vJ] [] M (kL fun v1 M1 => Tq 12 0 [vL (w32 (-(div32 (M 22053 0 s0) 4))), vJ, vL v1, vJ] [] M1 (kL fun v2 M2 => ((0 : Int) ≤ x3 ∧ x3 < 2048) ∧ bd (mset M2 22055 0 x3 (w32 v2)) fun M3 => ((0 : Int) ≤ x1 ∧ x1 < 1024) ∧ ((0 : Int) ≤ x1 ∧ x1 < 1024) ∧ bd (mset M3 22053 0 x1 (w32 (M3 22053 0 x1 - (w32 v2)))) fun M4 => ((0 : Int) ≤ x2 ∧ x2 < 1024) ∧ ((0 : Int) ≤ x2 ∧ x2 < 1024) ∧ bd (mset M4 22053 0 x2 (w32 (M4 22053 0 x2 + w32 v2))) fun M5 => Q (.inl none) M5))) :=
  (show Bq 331 de_331 (List.drop 56 bk_331_0) [vR 22 0, vI x1, vI x2, vI x3, vL x4, vJ, vL x6, vJ, vL x8, vJ] [vI s0, vR 22053 0] M Q ↔ (((0 : Int) ≤ s0 ∧ s0 < 1024) ∧ (¬ (4 : Int) = 0) ∧ Bq 331 de_331 (List.drop 62 bk_331_0) [vR 22 0, vI x1, vI x2, vI x3, vL x4, vJ, vL x6, vJ, vL x8, vJ] [vR 22 0, vL (w32 (-(div32 (M 22053 0 s0) 4)))] M Q) from Iff.rfl).trans (by simp only [t331_0_c62])
theorem t331_0_c50 {x1 x2 x3 x4 x6 s0 s1 s2 : Int} {M : Mem} {Q : AR → Mem → Prop} : Bq 331 de_331 (List.drop 50 bk_331_0) [vR 22 0, vI x1, vI x2, vI x3, vL x4, vJ, vL x6, vJ, vJ, vJ] [vI s0, vL s1, vL s2] M Q ↔ (((0 : Int) ≤ x2 ∧ x2 < 1024) ∧ (¬ (4 : Int) = 0) ∧ ((0 : Int) ≤ x1 ∧ x1 < 1024) ∧ (¬ (4 : Int) = 0) ∧ Tq 11 0 [vL (div32 (M 22053 0 x1) 4), vJ, vL (w64 (s2 + shr64 s1 s0)), vJ] [] M (kL fun v1 M1 => Tq 12 0 [vL (w32 (-(div32 (M 22053 0 x2) 4))), vJ, vL v1, vJ] [] M1 (kL fun v2 M2 => ((0 : Int) ≤ x3 ∧ x3 < 2048) ∧ bd (mset M2 22055 0 x3 (w32 v2)) fun M3 => ((0 : Int) ≤ x1 ∧ x1 < 1024) ∧ ((0 : Int) ≤ x1 ∧ x1 < 1024) ∧ bd (mset M3 22053 0 x1 (w32 (M3 22053 0 x1 - (w32 v2)))) fun M4 => ((0 : Int) ≤ x2 ∧ x2 < 1024) ∧ ((0 : Int) ≤ x2 ∧ x2 < 1024) ∧ bd (mset M4 22053 0 x2 (w32 (M4 22053 0 x2 + w32 v2))) fun M5 => Q (.inl none) M5))) :=
  (show Bq 331 de_331 (List.drop 50 bk_331_0) [vR 22 0, vI x1, vI x2, vI x3, vL x4, vJ, vL x6, vJ, vJ, vJ] [vI s0, vL s1, vL s2] M Q ↔ (Bq 331 de_331 (List.drop 56 bk_331_0) [vR 22 0, vI x1, vI x2, vI x3, vL x4, vJ, vL x6, vJ, vL (w64 (s2 + shr64 s1 s0)), vJ] [vI x2, vR 22053 0] M Q) from Iff.rfl).trans (by simp only [t331_0_c56])
theorem t331_0_c44 {x1 x2 x3 x4 x6 s0 s1 : Int} {M : Mem} {Q : AR → Mem → Prop} : Bq 331 de_331 (List.drop 44 bk_331_0) [vR 22 0, vI x1, vI x2, vI x3, vL x4, vJ, vL x6, vJ, vJ, vJ] [vI s0, vI s1] M Q ↔ (((0 : Int) ≤ x2 ∧ x2 < 1024) ∧ (¬ (4 : Int) = 0) ∧ ((0 : Int) ≤ x1 ∧ x1 < 1024) ∧ (¬ (4 : Int) = 0) ∧ Tq 11 0 [vL (div32 (M 22053 0 x1) 4), vJ, vL (w64 (w32 (s1 - s0) + shr64 (w64 (x4 * x6)) 13)), vJ] [] M (kL fun v1 M1 => Tq 12 0 [vL (w32 (-(div32 (M 22053 0 x2) 4))), vJ, vL v1, vJ] [] M1 (kL fun v2 M2 => ((0 : Int) ≤ x3 ∧ x3 < 2048) ∧ bd (mset M2 22055 0 x3 (w32 v2)) fun M3 => ((0 : Int) ≤ x1 ∧ x1 < 1024) ∧ ((0 : Int) ≤ x1 ∧ x1 < 1024) ∧ bd (mset M3 22053 0 x1 (w32 (M3 22053 0 x1 - (w32 v2)))) fun M4 => ((0 : Int) ≤ x2 ∧ x2 < 1024) ∧ ((0 : Int) ≤ x2 ∧ x2 < 1024) ∧ bd (mset M4 22053 0 x2 (w32 (M4 22053 0 x2 + w32 v2))) fun M5 => Q (.inl none) M5))) :=
  (show Bq 331 de_331 (List.drop 44 bk_331_0) [vR 22 0, vI x1, vI x2, vI x3, vL x4, vJ, vL x6, vJ, vJ, vJ] [vI s0, vI s1] M Q ↔ (Bq 331 de_331 (List.drop 50 bk_331_0) [vR 22 0, vI x1, vI x2, vI x3, vL x4, vJ, vL x6, vJ, vJ, vJ] [vI 13, vL (w64 (x4 * x6)), vL (w32 (s1 - s0))] M Q) from Iff.rfl).trans (by simp only [t331_0_c50])
theorem t331_0_c38 {x1 x2 x3 x4 x6 s0 : Int} {M : Mem} {Q : AR → Mem → Prop} : Bq 331 de_331 (List.drop 38 bk_331_0) [vR 22 0, vI x1, vI x2, vI x3, vL x4, vJ, vL x6, vJ, vJ, vJ] [vI s0] M Q ↔ (((0 : Int) ≤ x3 ∧ x3 < 2048) ∧ ((0 : Int) ≤ x2 ∧ x2 < 1024) ∧ (¬ (4 : Int) = 0) ∧ ((0 : Int) ≤ x1 ∧ x1 < 1024) ∧ (¬ (4 : Int) = 0) ∧ Tq 11 0 [vL (div32 (M 22053 0 x1) 4), vJ, vL (w64 (w32 (s0 - (shr32 (M 22055 0 x3) 4)) + shr64 (w64 (x4 * x6)) 13)), vJ] [] M (kL fun v1 M1 => Tq 12 0 [vL (w32 (-(div32 (M 22053 0 x2) 4))), vJ, vL v1, vJ] [] M1 (kL fun v2 M2 => ((0 : Int) ≤ x3 ∧ x3 < 2048) ∧ bd (mset M2 22055 0 x3 (w32 v2)) fun M3 => ((0 : Int) ≤ x1 ∧ x1 < 1024) ∧ ((0 : Int) ≤ x1 ∧ x1 < 1024) ∧ bd (mset M3 22053 0 x1 (w32 (M3 22053 0 x1 - (w32 v2)))) fun M4 => ((0 : Int) ≤ x2 ∧ x2 < 1024) ∧ ((0 : Int) ≤ x2 ∧ x2 < 1024) ∧ bd (mset M4 22053 0 x2 (w32 (M4 22053 0 x2 + w32 v2))) fun M5 => Q (.inl none) M5))) :=
  (show Bq 331 de_331 (List.drop 38 bk_331_0) [vR 22 0, vI x1, vI x2, vI x3, vL x4, vJ, vL x6, vJ, vJ, vJ] [vI s0] M Q ↔ (((0 : Int) ≤ x3 ∧ x3 < 2048) ∧ Bq 331 de_331 (List.drop 44 bk_331_0) [vR 22 0, vI x1, vI x2, vI x3, vL x4, vJ, vL x6, vJ, vJ, vJ] [vI (shr32 (M 22055 0 x3) 4), vI s0] M Q) from Iff.rfl).trans (by simp only [t331_0_c44])
theorem t331_0_c32 {x1 x2 x3 x4 s0 : Int} {M : Mem} {Q : AR → Mem → Prop} : Bq 331 de_331 (List.drop 32 bk_331_0) [vR 22 0, vI x1, vI x2, vI x3, vL x4, vJ, vJ, vJ, vJ, vJ] [vI s0] M Q ↔ (((0 : Int) ≤ x3 ∧ x3 < 2048) ∧ ((0 : Int) ≤ x3 ∧ x3 < 2048) ∧ ((0 : Int) ≤ x2 ∧ x2 < 1024) ∧ (¬ (4 : Int) = 0) ∧ ((0 : Int) ≤ x1 ∧ x1 < 1024) ∧ (¬ (4 : Int) = 0) ∧ Tq 11 0 [vL (div32 (M 22053 0 x1) 4), vJ, vL (w64 (w32 (M 22055 0 x3 - (shr32 (M 22055 0 x3) 4)) + shr64 (w64 (x4 * s0)) 13)), vJ] [] M (kL fun v1 M1 => Tq 12 0 [vL (w32 (-(div32 (M 22053 0 x2) 4))), vJ, vL v1, vJ] [] M1 (kL fun v2 M2 => ((0 : Int) ≤ x3 ∧ x3 < 2048) ∧ bd (mset M2 22055 0 x3 (w32 v2)) fun M3 => ((0 : Int) ≤ x1 ∧ x1 < 1024) ∧ ((0 : Int) ≤ x1 ∧ x1 < 1024) ∧ bd (mset M3 22053 0 x1 (w32 (M3 22053 0 x1 - (w32 v2)))) fun M4 => ((0 : Int) ≤ x2 ∧ x2 < 1024) ∧ ((0 : Int) ≤ x2 ∧ x2 < 1024) ∧ bd (mset M4 22053 0 x2 (w32 (M4 22053 0 x2 + w32 v2))) fun M5 => Q (.inl none) M5))) :=
  (show Bq 331 de_331 (List.drop 32 bk_331_0) [vR 22 0, vI x1, vI x2, vI x3, vL x4, vJ, vJ, vJ, vJ, vJ] [vI s0] M Q ↔ (((0 : Int) ≤ x3 ∧ x3 < 2048) ∧ Bq 331 de_331 (List.drop 38 bk_331_0) [vR 22 0, vI x1, vI x2, vI x3, vL x4, vJ, vL s0, vJ, vJ, vJ] [vI (M 22055 0 x3)] M Q) from Iff.rfl).trans (by simp only [t331_0_c38])
theorem t331_0_c30 {x1 x2 x3 x4 s0 s2 : Int} {M : Mem} {Q : AR → Mem → Prop} : Bq 331 de_331 (List.drop 30 bk_331_0) [vR 22 0, vI x1, vI x2, vI x3, vL x4, vJ, vJ, vJ, vJ, vJ] [vI s0, vR 22053 0, vI s2] M Q ↔ (((0 : Int) ≤ s0 ∧ s0 < 1024) ∧ Tq 9 0 [vI s2, vI (M 22053 0 s0)] [] M (kI fun v1 M1 => ((0 : Int) ≤ x3 ∧ x3 < 2048) ∧ ((0 : Int) ≤ x3 ∧ x3 < 2048) ∧ ((0 : Int) ≤ x2 ∧ x2 < 1024) ∧ (¬ (4 : Int) = 0) ∧ ((0 : Int) ≤ x1 ∧ x1 < 1024) ∧ (¬ (4 : Int) = 0) ∧ Tq 11 0 [vL (div32 (M1 22053 0 x1) 4), vJ, vL (w64 (w32 (M1 22055 0 x3 - (shr32 (M1 22055 0 x3) 4)) + shr64 (w64 (x4 * v1)) 13)), vJ] [] M1 (kL fun v2 M2 => Tq 12 0 [vL (w32 (-(div32 (M1 22053 0 x2) 4))), vJ, vL v2, vJ] [] M2 (kL fun v3 M3 => ((0 : Int) ≤ x3 ∧ x3 < 2048) ∧ bd (mset M3 22055 0 x3 (w32 v3)) fun M4 => ((0 : Int) ≤ x1 ∧ x1 < 1024) ∧ ((0 : Int) ≤ x1 ∧ x1 < 1024) ∧ bd (mset M4 22053 0 x1 (w32 (M4 22053 0 x1 - (w32 v3)))) fun M5 => ((0 : Int) ≤ x2 ∧ x2 < 1024) ∧ ((0 : Int) ≤ x2 ∧ x2 < 1024) ∧ bd (mset M5 22053 0 x2 (w32 (M5 22053 0 x2 + w32 v3))) fun M6 => Q (.inl none) M6)))) :=
  (show Bq 331 de_331 (List.drop 30 bk_331_0) [vR 22 0, vI x1, vI x2, vI x3, vL x4, vJ, vJ, vJ, vJ, vJ] [vI s0, vR 22053 0, vI s2] M Q ↔ (((0 : Int) ≤ s0 ∧ s0 < 1024) ∧ Tq 9 0 [vI s2, vI (M 22053 0 s0)] [] M (kI fun v1 M1 => Bq 331 de_331 (List.drop 32 bk_331_0) [vR 22 0, vI x1, vI x2, vI x3, vL x4, vJ, vJ, vJ, vJ, vJ] [vI v1] M1 Q)) from Iff.rfl).trans (by simp only [t331_0_c32])
theorem t331_0_c24 {x1 x2 x3 x4 : Int} {M : Mem} {Q : AR → Mem → Prop} : Bq 331 de_331 (List.drop 24 bk_331_0) [vR 22 0, vI x1, vI x2, vI x3, vL x4, vJ, vJ, vJ, vJ, vJ] [vR 22 0] M Q ↔ (((0 : Int) ≤ x1 ∧ x1 < 1024) ∧ ((0 : Int) ≤ x2 ∧ x2 < 1024) ∧ Tq 9 0 [vI (M 22053 0 x1), vI (M 22053 0 x2)] [] M (kI fun v1 M1 => ((0 : Int) ≤ x3 ∧ x3 < 2048) ∧ ((0 : Int) ≤ x3 ∧ x3 < 2048) ∧ ((0 : Int) ≤ x2 ∧ x2 < 1024) ∧ (¬ (4 : Int) = 0) ∧ ((0 : Int) ≤ x1 ∧ x1 < 1024) ∧ (¬ (4 : Int) = 0) ∧ Tq 11 0 [vL (div32 (M1 22053 0 x1) 4), vJ, vL (w64 (w32 (M1 22055 0 x3 - (shr32 (M1 22055 0 x3) 4)) + shr64 (w64 (x4 * v1)) 13)), vJ] [] M1 (kL fun v2 M2 => Tq 12 0 [vL (w32 (-(div32 (M1 22053 0 x2) 4))), vJ, vL v2, vJ] [] M2 (kL fun v3 M3 => ((0 : Int) ≤ x3 ∧ x3 < 2048) ∧ bd (mset M3 22055 0 x3 (w32 v3)) fun M4 => ((0 : Int) ≤ x1 ∧ x1 < 1024) ∧ ((0 : Int) ≤ x1 ∧ x1 < 1024) ∧ bd (mset M4 22053 0 x1 (w32 (M4 22053 0 x1 - (w32 v3)))) fun M5 => ((0 : Int) ≤ x2 ∧ x2 < 1024) ∧ ((0 : Int) ≤ x2 ∧ x2 < 1024) ∧ bd (mset M5 22053 0 x2 (w32 (M5 22053 0 x2 + w32 v3))) fun M6 => Q (.inl none) M6)))) :=
  (show Bq 331 de_331 (List.drop 24 bk_331_0) [vR 22 0, vI x1, vI x2, vI x3, vL x4, vJ, vJ, vJ, vJ, vJ] [vR 22 0] M Q ↔ (((0 : Int) ≤ x1 ∧ x1 < 1024) ∧ Bq 331 de_331 (List.drop 30 bk_331_0) [vR 22 0, vI x1, vI x2, vI x3, vL x4, vJ, vJ, vJ, vJ, vJ] [vI x2, vR 22053 0, vI (M 22053 0 x1)] M Q) from Iff.rfl).trans (by simp only [t331_0_c30])
theorem t331_0_c18 {x1 x2 x3 s0 s2 s3 : Int} {M : Mem} {Q : AR → Mem → Prop} : Bq 331 de_331 (List.drop 18 bk_331_0) [vR 22 0, vI x1, vI x2, vI x3, vJ, vJ, vJ, vJ, vJ, vJ] [vI s0, vR 22052 0, vI s2, vL s3] M Q ↔ (((0 : Int) ≤ s0 ∧ s0 < 1024) ∧ ((0 : Int) ≤ x1 ∧ x1 < 1024) ∧ ((0 : Int) ≤ x2 ∧ x2 < 1024) ∧ Tq 9 0 [vI (M 22053 0 x1), vI (M 22053 0 x2)] [] M (kI fun v1 M1 => ((0 : Int) ≤ x3 ∧ x3 < 2048) ∧ ((0 : Int) ≤ x3 ∧ x3 < 2048) ∧ ((0 : Int) ≤ x2 ∧ x2 < 1024) ∧ (¬ (4 : Int) = 0) ∧ ((0 : Int) ≤ x1 ∧ x1 < 1024) ∧ (¬ (4 : Int) = 0) ∧ Tq 11 0 [vL (div32 (M1 22053 0 x1) 4), vJ, vL (w64 (w32 (M1 22055 0 x3 - (shr32 (M1 22055 0 x3) 4)) + shr64 (w64 ((w64 (s3 - (w32 (s2 - (M 22052 0 s0))))) * v1)) 13)), vJ] [] M1 (kL fun v2 M2 => Tq 12 0 [vL (w32 (-(div32 (M1 22053 0 x2) 4))), vJ, vL v2, vJ] [] M2 (kL fun v3 M3 => ((0 : Int) ≤ x3 ∧ x3 < 2048) ∧ bd (mset M3 22055 0 x3 (w32 v3)) fun M4 => ((0 : Int) ≤ x1 ∧ x1 < 1024) ∧ ((0 : Int) ≤ x1 ∧ x1 < 1024) ∧ bd (mset M4 22053 0 x1 (w32 (M4 22053 0 x1 - (w32 v3)))) fun M5 => ((0 : Int) ≤ x2 ∧ x2 < 1024) ∧ ((0 : Int) ≤ x2 ∧ x2 < 1024) ∧ bd (mset M5 22053 0 x2 (w32 (M5 22053 0 x2 + w32 v3))) fun M6 => Q (.inl none) M6)))) :=
  (show Bq 331 de_331 (List.drop 18 bk_331_0) [vR 22 0, vI x1, vI x2, vI x3, vJ, vJ, vJ, vJ, vJ, vJ] [vI s0, vR 22052 0, vI s2, vL s3] M Q ↔ (((0 : Int) ≤ s0 ∧ s0 < 1024) ∧ Bq 331 de_331 (List.drop 24 bk_331_0) [vR 22 0, vI x1, vI x2, vI x3, vL (w64 (s3 - (w32 (s2 - (M 22052 0 s0))))), vJ, vJ, vJ, vJ, vJ] [vR 22 0] M Q) from Iff.rfl).trans (by simp only [t331_0_c24])
theorem t331_0_c12 {x1 x2 x3 s1 : Int} {M : Mem} {Q : AR → Mem → Prop} : Bq 331 de_331 (List.drop 12 bk_331_0) [vR 22 0, vI x1, vI x2, vI x3, vJ, vJ, vJ, vJ, vJ, vJ] [vR 22 0, vL s1] M Q ↔ (((0 : Int) ≤ x2 ∧ x2 < 1024) ∧ ((0 : Int) ≤ x2 ∧ x2 < 1024) ∧ ((0 : Int) ≤ x1 ∧ x1 < 1024) ∧ ((0 : Int) ≤ x2 ∧ x2 < 1024) ∧ Tq 9 0 [vI (M 22053 0 x1), vI (M 22053 0 x2)] [] M (kI fun v1 M1 => ((0 : Int) ≤ x3 ∧ x3 < 2048) ∧ ((0 : Int) ≤ x3 ∧ x3 < 2048) ∧ ((0 : Int) ≤ x2 ∧ x2 < 1024) ∧ (¬ (4 : Int) = 0) ∧ ((0 : Int) ≤ x1 ∧ x1 < 1024) ∧ (¬ (4 : Int) = 0) ∧ Tq 11 0 [vL (div32 (M1 22053 0 x1) 4), vJ, vL (w64 (w32 (M1 22055 0 x3 - (shr32 (M1 22055 0 x3) 4)) + shr64 (w64 ((w64 (s1 - (w32 (M 22053 0 x2 - (M 22052 0 x2))))) * v1)) 13)), vJ] [] M1 (kL fun v2 M2 => Tq 12 0 [vL (w32 (-(div32 (M1 22053 0 x2) 4))), vJ, vL v2, vJ] [] M2 (kL fun v3 M3 => ((0 : Int) ≤ x3 ∧ x3 < 2048) ∧ bd (mset M3 22055 0 x3 (w32 v3)) fun M4 => ((0 : Int) ≤ x1 ∧ x1 < 1024) ∧ ((0 : Int) ≤ x1 ∧ x1 < 1024) ∧ bd (mset M4 22053 0 x1 (w32 (M4 22053 0 x1 - (w32 v3)))) fun M5 => ((0 : Int) ≤ x2 ∧ x2 < 1024) ∧ ((0 : Int) ≤ x2 ∧ x2 < 1024) ∧ bd (mset M5 22053 0 x2 (w32 (M5 22053 0 x2 + w32 v3))) fun M6 => Q (.inl none) M6)))) :=
  (show Bq 331 de_331 (List.drop 12 bk_331_0) [vR 22 0, vI x1, vI x2, vI x3, vJ, vJ, vJ, vJ, vJ, vJ] [vR 22 0, vL s1] M Q ↔ (((0 : Int) ≤ x2 ∧ x2 < 1024) ∧ Bq 331 de_331 (List.drop 18 bk_331_0) [vR 22 0, vI x1, vI x2, vI x3, vJ, vJ, vJ, vJ, vJ, vJ] [vI x2, vR 22052 0, vI (M 22053 0 x2), vL s1] M Q) from Iff.rfl).trans (by simp only [t331_0_c18])
theorem t331_0_c6 {x1 x2 x3 s1 : Int} {M : Mem} {Q : AR → Mem → Prop} : Bq 331 de_331 (List.drop 6 bk_331_0) [vR 22 0, vI x1, vI x2, vI x3, vJ, vJ, vJ, vJ, vJ, vJ] [vR 22 0, vL s1] M Q ↔ (((0 : Int) ≤ x1 ∧ x1 < 1024) ∧ ((0 : Int) ≤ x2 ∧ x2 < 1024) ∧ ((0 : Int) ≤ x2 ∧ x2 < 1024) ∧ ((0 : Int) ≤ x1 ∧ x1 < 1024) ∧ ((0 : Int) ≤ x2 ∧ x2 < 1024) ∧ Tq 9 0 [vI (M 22053 0 x1), vI (M 22053 0 x2)] [] M (kI fun v1 M1 => ((0 : Int) ≤ x3 ∧ x3 < 2048) ∧ ((0 : Int) ≤ x3 ∧ x3 < 2048) ∧ ((0 : Int) ≤ x2 ∧ x2 < 1024) ∧ (¬ (4 : Int) = 0) ∧ ((0 : Int) ≤ x1 ∧ x1 < 1024) ∧ (¬ (4 : Int) = 0) ∧ Tq 11 0 [vL (div32 (M1 22053 0 x1) 4), vJ, vL (w64 (w32 (M1 22055 0 x3 - (shr32 (M1 22055 0 x3) 4)) + shr64 (w64 ((w64 (w64 (s1 - (M 22052 0 x1)) - (w32 (M 22053 0 x2 - (M 22052 0 x2))))) * v1)) 13)), vJ] [] M1 (kL fun v2 M2 => Tq 12 0 [vL (w32 (-(div32 (M1 22053 0 x2) 4))), vJ, vL v2, vJ] [] M2 (kL fun v3 M3 => ((0 : Int) ≤ x3 ∧ x3 < 2048) ∧ bd (mset M3 22055 0 x3 (w32 v3)) fun M4 => ((0 : Int) ≤ x1 ∧ x1 < 1024) ∧ ((0 : Int) ≤ x1 ∧ x1 < 1024) ∧ bd (mset M4 22053 0 x1 (w32 (M4 22053 0 x1 - (w32 v3)))) fun M5 => ((0 : Int) ≤ x2 ∧ x2 < 1024) ∧ ((0 : Int) ≤ x2 ∧ x2 < 1024) ∧ bd (mset M5 22053 0 x2 (w32 (M5 22053 0 x2 + w32 v3))) fun M6 => Q (.inl none) M6)))) :=
  (show Bq 331 de_331 (List.drop 6 bk_331_0) [vR 22 0, vI x1, vI x2, vI x3, vJ, vJ, vJ, vJ, vJ, vJ] [vR 22 0, vL s1] M Q ↔ (((0 : Int) ≤ x1 ∧ x1 < 1024) ∧ Bq 331 de_331 (List.drop 12 bk_331_0) [vR 22 0, vI x1, vI x2, vI x3, vJ, vJ, vJ, vJ, vJ, vJ] [vR 22 0, vL (w64 (s1 - (M 22052 0 x1)))] M Q) from Iff.rfl).trans (by simp only [t331_0_c12])
theorem t331_0 {x1 x2 x3 : Int} {M : Mem} {Q : AR → Mem → Prop} : Tq 331 0 [vR 22 0, vI x1, vI x2, vI x3, vJ, vJ, vJ, vJ, vJ, vJ] [] M Q ↔ (((0 : Int) ≤ x1 ∧ x1 < 1024) ∧ ((0 : Int) ≤ x1 ∧ x1 < 1024) ∧ ((0 : Int) ≤ x2 ∧ x2 < 1024) ∧ ((0 : Int) ≤ x2 ∧ x2 < 1024) ∧ ((0 : Int) ≤ x1 ∧ x1 < 1024) ∧ ((0 : Int) ≤ x2 ∧ x2 < 1024) ∧ Tq 9 0 [vI (M 22053 0 x1), vI (M 22053 0 x2)] [] M (kI fun v1 M1 => ((0 : Int) ≤ x3 ∧ x3 < 2048) ∧ ((0 : Int) ≤ x3 ∧ x3 < 2048) ∧ ((0 : Int) ≤ x2 ∧ x2 < 1024) ∧ (¬ (4 : Int) = 0) ∧ ((0 : Int) ≤ x1 ∧ x1 < 1024) ∧ (¬ (4 : Int) = 0) ∧ Tq 11 0 [vL (div32 (M1 22053 0 x1) 4), vJ, vL (w64 (w32 (M1 22055 0 x3 - (shr32 (M1 22055 0 x3) 4)) + shr64 (w64 ((w64 (w64 (M 22053 0 x1 - (M 22052 0 x1)) - (w32 (M 22053 0 x2 - (M 22052 0 x2))))) * v1)) 13)), vJ] [] M1 (kL fun v2 M2 => Tq 12 0 [vL (w32 (-(div32 (M1 22053 0 x2) 4))), vJ, vL v2, vJ] [] M2 (kL fun v3 M3 => ((0 : Int) ≤ x3 ∧ x3 < 2048) ∧ bd (mset M3 22055 0 x3 (w32 v3)) fun M4 => ((0 : Int) ≤ x1 ∧ x1 < 1024) ∧ ((0 : Int) ≤ x1 ∧ x1 < 1024) ∧ bd (mset M4 22053 0 x1 (w32 (M4 22053 0 x1 - (w32 v3)))) fun M5 => ((0 : Int) ≤ x2 ∧ x2 < 1024) ∧ ((0 : Int) ≤ x2 ∧ x2 < 1024) ∧ bd (mset M5 22053 0 x2 (w32 (M5 22053 0 x2 + w32 v3))) fun M6 => Q (.inl none) M6)))) :=
  (show Tq 331 0 [vR 22 0, vI x1, vI x2, vI x3, vJ, vJ, vJ, vJ, vJ, vJ] [] M Q ↔ (((0 : Int) ≤ x1 ∧ x1 < 1024) ∧ Bq 331 de_331 (List.drop 6 bk_331_0) [vR 22 0, vI x1, vI x2, vI x3, vJ, vJ, vJ, vJ, vJ, vJ] [vR 22 0, vL (M 22053 0 x1)] M Q) from Tq_blk (is := bk_331_0) (dd := de_331) rfl rfl).trans (by simp only [t331_0_c6])
/-- EarthOfficeModel water block at 0 -/
theorem t332_0 {x1 x2 x3 : Int} {M : Mem} {Q : AR → Mem → Prop} : Tq 332 0 [vR 22 0, vI x1, vI x2, vI x3, vJ] [] M Q ↔ (Tq 327 0 [vR 22 0, vI x1, vI x2] [] M (kI fun v1 M1 => if v1 = 0 then Tq 332 1 [vJ, vJ, vJ, vJ, vJ] [] M1 Q else Tq 189 0 [vI x3, vI 0, vI 5] [] M1 (kI fun v2 M2 => if ¬ v2 = 0 then Tq 332 2 [vR 22 0, vI x1, vI x2, vI x3, vJ] [] M2 Q else Tq 332 1 [vJ, vJ, vJ, vJ, vJ] [] M2 Q))) :=
  Tq_blk (is := bk_332_0) (dd := de_332) rfl rfl
/-- EarthOfficeModel water block at 18 -/
theorem t332_1 {M : Mem} {Q : AR → Mem → Prop} : Tq 332 1 [vJ, vJ, vJ, vJ, vJ] [] M Q ↔ (Q (.inl (some (vI (-99999999)))) M) :=
  Tq_blk (is := bk_332_1) (dd := de_332) rfl rfl
/-- EarthOfficeModel water block at 21 -/
theorem t332_2 {x1 x2 x3 : Int} {M : Mem} {Q : AR → Mem → Prop} : Tq 332 2 [vR 22 0, vI x1, vI x2, vI x3, vJ] [] M Q ↔ (if ¬ x3 = 0 then Tq 332 3 [vR 22 0, vJ, vJ, vI x3, vI (w32 (w32 (32 * x2) + x1))] [] M Q else ((0 : Int) ≤ w32 (w32 (32 * x2) + x1) ∧ w32 (w32 (32 * x2) + x1) < 1024) ∧ Tq 332 8 [vJ, vJ, vJ, vJ, vJ] [vI (M 22053 0 (w32 (w32 (32 * x2) + x1)))] M Q) :=
  Tq_blk (is := bk_332_2) (dd := de_332) rfl rfl
/-- EarthOfficeModel water block at 43 -/
theorem t332_3 {x3 x4 : Int} {M : Mem} {Q : AR → Mem → Prop} : Tq 332 3 [vR 22 0, vJ, vJ, vI x3, vI x4] [] M Q ↔ (if ¬ x3 = (1 : Int) then Tq 332 4 [vR 22 0, vJ, vJ, vI x3, vI x4] [] M Q else ((0 : Int) ≤ x4 ∧ x4 < 1024) ∧ ((0 : Int) ≤ x4 ∧ x4 < 1024) ∧ Tq 332 8 [vJ, vJ, vJ, vJ, vJ] [vI (w32 (M 22053 0 x4 - (M 22052 0 x4)))] M Q) :=
  Tq_blk (is := bk_332_3) (dd := de_332) rfl rfl
/-- EarthOfficeModel water block at 66 -/
theorem t332_4 {x3 x4 : Int} {M : Mem} {Q : AR → Mem → Prop} : Tq 332 4 [vR 22 0, vJ, vJ, vI x3, vI x4] [] M Q ↔ (if ¬ x3 = (2 : Int) then Tq 332 5 [vR 22 0, vJ, vJ, vI x3, vI x4] [] M Q else ((0 : Int) ≤ x4 ∧ x4 < 1024) ∧ Tq 332 8 [vJ, vJ, vJ, vJ, vJ] [vI (M 22054 0 x4)] M Q) :=
  Tq_blk (is := bk_332_4) (dd := de_332) rfl rfl
/-- EarthOfficeModel water block at 81 -/
theorem t332_5 {x3 x4 : Int} {M : Mem} {Q : AR → Mem → Prop} : Tq 332 5 [vR 22 0, vJ, vJ, vI x3, vI x4] [] M Q ↔ (if ¬ x3 = (3 : Int) then Tq 332 6 [vR 22 0, vJ, vJ, vI x3, vI x4] [] M Q else ((0 : Int) ≤ x4 ∧ x4 < 1024) ∧ Tq 332 8 [vJ, vJ, vJ, vJ, vJ] [vI (M 22052 0 x4)] M Q) :=
  Tq_blk (is := bk_332_5) (dd := de_332) rfl rfl
/-- EarthOfficeModel water block at 96 -/
theorem t332_6 {x3 x4 : Int} {M : Mem} {Q : AR → Mem → Prop} : Tq 332 6 [vR 22 0, vJ, vJ, vI x3, vI x4] [] M Q ↔ (if ¬ x3 = (4 : Int) then Tq 332 7 [vR 22 0, vJ, vJ, vJ, vI x4] [] M Q else ((0 : Int) ≤ x4 ∧ x4 < 2048) ∧ Tq 332 8 [vJ, vJ, vJ, vJ, vJ] [vI (M 22055 0 x4)] M Q) :=
  Tq_blk (is := bk_332_6) (dd := de_332) rfl rfl
/-- EarthOfficeModel water block at 111 -/
theorem t332_7 {x4 : Int} {M : Mem} {Q : AR → Mem → Prop} : Tq 332 7 [vR 22 0, vJ, vJ, vJ, vI x4] [] M Q ↔ (((0 : Int) ≤ w32 (1024 + x4) ∧ w32 (1024 + x4) < 2048) ∧ Tq 332 8 [vJ, vJ, vJ, vJ, vJ] [vI (M 22055 0 (w32 (1024 + x4)))] M Q) :=
  Tq_blk (is := bk_332_7) (dd := de_332) rfl rfl
/-- EarthOfficeModel water block at 122 -/
theorem t332_8 {s0 : Int} {M : Mem} {Q : AR → Mem → Prop} : Tq 332 8 [vJ, vJ, vJ, vJ, vJ] [vI s0] M Q ↔ (Q (.inl (some (vI s0))) M) :=
  Tq_blk (is := bk_332_8) (dd := de_332) rfl rfl
/-- EarthOfficeModel total block at 0 -/
theorem t333_0 {M : Mem} {Q : AR → Mem → Prop} : Tq 333 0 [vR 22 0, vJ, vJ] [] M Q ↔ (Tq 333 1 [vR 22 0, vI 0, vI 0] [] M Q) :=
  Tq_blk (is := bk_333_0) (dd := de_333) rfl rfl
/-- EarthOfficeModel total block at 4 -/
theorem t333_1 {x1 x2 : Int} {M : Mem} {Q : AR → Mem → Prop} : Tq 333 1 [vR 22 0, vI x1, vI x2] [] M Q ↔ (if (1024 : Int) ≤ x2 then Tq 333 2 [vJ, vI x1, vJ] [] M Q else ((0 : Int) ≤ x2 ∧ x2 < 1024) ∧ Tq 333 1 [vR 22 0, vI (w32 (x1 + M 22053 0 x2)), vI (w32 (x2 + 1))] [] M Q) :=
  Tq_blk (is := bk_333_1) (dd := de_333) rfl rfl
/-- EarthOfficeModel total block at 26 -/
theorem t333_2 {x1 : Int} {M : Mem} {Q : AR → Mem → Prop} : Tq 333 2 [vJ, vI x1, vJ] [] M Q ↔ (Q (.inl (some (vI x1))) M) :=
  Tq_blk (is := bk_333_2) (dd := de_333) rfl rfl
/-- EarthOfficeModel path block at 0 -/
theorem t334_0 {x1 x2 x3 x4 : Int} {M : Mem} {Q : AR → Mem → Prop} : Tq 334 0 [vR 22 0, vI x1, vI x2, vI x3, vI x4, vJ, vJ] [] M Q ↔ (Tq 327 0 [vR 22 0, vI x1, vI x2] [] M (kI fun v1 M1 => if v1 = 0 then Tq 334 1 [vJ, vJ, vJ, vJ, vJ, vJ, vJ] [] M1 Q else Tq 327 0 [vR 22 0, vI x3, vI x4] [] M1 (kI fun v2 M2 => if ¬ v2 = 0 then Tq 334 2 [vR 22 0, vI x1, vI x2, vI x3, vI x4, vJ, vJ] [] M2 Q else Tq 334 1 [vJ, vJ, vJ, vJ, vJ, vJ, vJ] [] M2 Q))) :=
  Tq_blk (is := bk_334_0) (dd := de_334) rfl rfl
/-- EarthOfficeModel path block at 19 -/
theorem t334_1 {M : Mem} {Q : AR → Mem → Prop} : Tq 334 1 [vJ, vJ, vJ, vJ, vJ, vJ, vJ] [] M Q ↔ (Q (.inl (some (vI (-1)))) M) :=
  Tq_blk (is := bk_334_1) (dd := de_334) rfl rfl
/-- EarthOfficeModel path block at 21 -/
theorem t334_2 {x1 x2 x3 x4 : Int} {M : Mem} {Q : AR → Mem → Prop} : Tq 334 2 [vR 22 0, vI x1, vI x2, vI x3, vI x4, vJ, vJ] [] M Q ↔ (Tq 334 3 [vR 22 0, vI x1, vI x2, vI x3, vI x4, vI 0, vJ] [] M Q) :=
  Tq_blk (is := bk_334_2) (dd := de_334) rfl rfl
/-- EarthOfficeModel path block at 24 -/
theorem t334_3 {x1 x2 x3 x4 x5 : Int} {M : Mem} {Q : AR → Mem → Prop} : Tq 334 3 [vR 22 0, vI x1, vI x2, vI x3, vI x4, vI x5, vJ] [] M Q ↔ (if (1024 : Int) ≤ x5 then Tq 334 4 [vR 22 0, vI x1, vI x2, vI x3, vI x4, vJ, vJ] [] M Q else ((0 : Int) ≤ x5 ∧ x5 < 1024) ∧ bd (mset M 22056 0 x5 2147483647) fun M1 => Tq 334 3 [vR 22 0, vI x1, vI x2, vI x3, vI x4, vI (w32 (x5 + 1)), vJ] [] M1 Q) :=
  Tq_blk (is := bk_334_3) (dd := de_334) rfl rfl
/-- EarthOfficeModel path block at 48 -/
theorem t334_4 {x1 x2 x3 x4 : Int} {M : Mem} {Q : AR → Mem → Prop} : Tq 334 4 [vR 22 0, vI x1, vI x2, vI x3, vI x4, vJ, vJ] [] M Q ↔ (((0 : Int) ≤ w32 (w32 (32 * x2) + x1) ∧ w32 (w32 (32 * x2) + x1) < 1024) ∧ if M 22053 0 (w32 (w32 (32 * x2) + x1)) ≤ 0 then Tq 334 5 [vR 22 0, vJ, vJ, vI x3, vI x4, vJ, vJ] [vI (w32 (w32 (32 * x2) + x1)), vR 22056 0] M Q else Tq 334 6 [vR 22 0, vJ, vJ, vI x3, vI x4, vJ, vJ] [vI 0, vI (w32 (w32 (32 * x2) + x1)), vR 22056 0] M Q) :=
  Tq_blk (is := bk_334_4) (dd := de_334) rfl rfl
/-- EarthOfficeModel path block at 76 -/
theorem t334_5 {x3 x4 s0 : Int} {M : Mem} {Q : AR → Mem → Prop} : Tq 334 5 [vR 22 0, vJ, vJ, vI x3, vI x4, vJ, vJ] [vI s0, vR 22056 0] M Q ↔ (Tq 334 6 [vR 22 0, vJ, vJ, vI x3, vI x4, vJ, vJ] [vI 2147483647, vI s0, vR 22056 0] M Q) :=
  Tq_blk (is := bk_334_5) (dd := de_334) rfl rfl
/-- EarthOfficeModel path block at 79 -/
theorem t334_6 {x3 x4 s0 s1 : Int} {M : Mem} {Q : AR → Mem → Prop} : Tq 334 6 [vR 22 0, vJ, vJ, vI x3, vI x4, vJ, vJ] [vI s0, vI s1, vR 22056 0] M Q ↔ (((0 : Int) ≤ s1 ∧ s1 < 1024) ∧ bd (mset M 22056 0 s1 s0) fun M1 => Tq 334 7 [vR 22 0, vJ, vJ, vI x3, vI x4, vI 1, vJ] [] M1 Q) :=
  Tq_blk (is := bk_334_6) (dd := de_334) rfl rfl
/-- EarthOfficeModel path block at 83 -/
theorem t334_7 {x3 x4 x5 : Int} {M : Mem} {Q : AR → Mem → Prop} : Tq 334 7 [vR 22 0, vJ, vJ, vI x3, vI x4, vI x5, vJ] [] M Q ↔ (if x5 = 0 then Tq 334 12 [vR 22 0, vJ, vJ, vI x3, vI x4, vJ, vJ] [] M Q else Tq 334 8 [vR 22 0, vJ, vJ, vI x3, vI x4, vI 0, vI 0] [] M Q) :=
  Tq_blk (is := bk_334_7) (dd := de_334) rfl rfl
/-- EarthOfficeModel path block at 94 -/
theorem t334_8 {x3 x4 x5 x6 : Int} {M : Mem} {Q : AR → Mem → Prop} : Tq 334 8 [vR 22 0, vJ, vJ, vI x3, vI x4, vI x5, vI x6] [] M Q ↔ (if (1024 : Int) ≤ x6 then Tq 334 9 [vR 22 0, vJ, vJ, vI x3, vI x4, vI x5, vJ] [] M Q else (¬ (32 : Int) = 0) ∧ (¬ (32 : Int) = 0) ∧ Tq 335 0 [vR 22 0, vI (rem32 x6 32), vI (div32 x6 32), vJ, vJ, vJ, vJ, vJ, vJ, vJ] [] M (kI fun v1 M1 => Tq 334 8 [vR 22 0, vJ, vJ, vI x3, vI x4, vI (or32 x5 v1), vI (w32 (x6 + 1))] [] M1 Q)) :=
  Tq_blk (is := bk_334_8) (dd := de_334) rfl rfl
/-- EarthOfficeModel path block at 127 -/
theorem t334_9 {x3 x4 x5 : Int} {M : Mem} {Q : AR → Mem → Prop} : Tq 334 9 [vR 22 0, vJ, vJ, vI x3, vI x4, vI x5, vJ] [] M Q ↔ (Tq 334 10 [vR 22 0, vJ, vJ, vI x3, vI x4, vI x5, vI 1023] [] M Q) :=
  Tq_blk (is := bk_334_9) (dd := de_334) rfl rfl
/-- EarthOfficeModel path block at 132 -/
theorem t334_10 {x3 x4 x5 x6 : Int} {M : Mem} {Q : AR → Mem → Prop} : Tq 334 10 [vR 22 0, vJ, vJ, vI x3, vI x4, vI x5, vI x6] [] M Q ↔ (if x6 < 0 then Tq 334 11 [vR 22 0, vJ, vJ, vI x3, vI x4, vI x5, vJ] [] M Q else if x5 = 0 then Tq 334 11 [vR 22 0, vJ, vJ, vI x3, vI x4, vI x5, vJ] [] M Q else (¬ (32 : Int) = 0) ∧ (¬ (32 : Int) = 0) ∧ Tq 335 0 [vR 22 0, vI (rem32 x6 32), vI (div32 x6 32), vJ, vJ, vJ, vJ, vJ, vJ, vJ] [] M (kI fun v1 M1 => Tq 334 10 [vR 22 0, vJ, vJ, vI x3, vI x4, vI x5, vI (w32 (x6 + (-1)))] [] M1 Q)) :=
  Tq_blk (is := bk_334_10) (dd := de_334) rfl rfl
/-- EarthOfficeModel path block at 163 -/
theorem t334_11 {x3 x4 x5 : Int} {M : Mem} {Q : AR → Mem → Prop} : Tq 334 11 [vR 22 0, vJ, vJ, vI x3, vI x4, vI x5, vJ] [] M Q ↔ (Tq 334 7 [vR 22 0, vJ, vJ, vI x3, vI x4, vI x5, vJ] [] M Q) :=
  Tq_blk (is := bk_334_11) (dd := de_334) rfl rfl
/-- EarthOfficeModel path block at 166 -/
theorem t334_12 {x3 x4 : Int} {M : Mem} {Q : AR → Mem → Prop} : Tq 334 12 [vR 22 0, vJ, vJ, vI x3, vI x4, vJ, vJ] [] M Q ↔ (((0 : Int) ≤ w32 (w32 (32 * x4) + x3) ∧ w32 (w32 (32 * x4) + x3) < 1024) ∧ if ¬ M 22056 0 (w32 (w32 (32 * x4) + x3)) = (2147483647 : Int) then Tq 334 13 [vJ, vJ, vJ, vJ, vJ, vJ, vI (M 22056 0 (w32 (w32 (32 * x4) + x3)))] [] M Q else Tq 334 14 [vJ, vJ, vJ, vJ, vJ, vJ, vJ] [vI (-2)] M Q) :=
  Tq_blk (is := bk_334_12) (dd := de_334) rfl rfl
/-- EarthOfficeModel path block at 193 -/
theorem t334_13 {x6 : Int} {M : Mem} {Q : AR → Mem → Prop} : Tq 334 13 [vJ, vJ, vJ, vJ, vJ, vJ, vI x6] [] M Q ↔ (Tq 334 14 [vJ, vJ, vJ, vJ, vJ, vJ, vJ] [vI x6] M Q) :=
  Tq_blk (is := bk_334_13) (dd := de_334) rfl rfl
/-- EarthOfficeModel path block at 195 -/
theorem t334_14 {s0 : Int} {M : Mem} {Q : AR → Mem → Prop} : Tq 334 14 [vJ, vJ, vJ, vJ, vJ, vJ, vJ] [vI s0] M Q ↔ (Q (.inl (some (vI s0))) M) :=
  Tq_blk (is := bk_334_14) (dd := de_334) rfl rfl
/-- EarthOfficeModel shortens block at 0 -/
theorem t335_0_c6 {x1 x2 x3 : Int} {M : Mem} {Q : AR → Mem → Prop} : Bq 335 de_335 (List.drop 6 bk_335_0) [vR 22 0, vI x1, vI x2, vI x3, vJ, vJ, vJ, vJ, vJ, vJ] [] M Q ↔ (((0 : Int) ≤ x3 ∧ x3 < 1024) ∧ if ¬ M 22053 0 x3 = 0 then Tq 335 1 [vR 22 0, vI x1, vI x2, vI x3, vJ, vJ, vJ, vJ, vJ, vJ] [] M Q else Q (.inl (some (vI (nb 0)))) M) :=
  Iff.rfl
theorem t335_0 {x1 x2 : Int} {M : Mem} {Q : AR → Mem → Prop} : Tq 335 0 [vR 22 0, vI x1, vI x2, vJ, vJ, vJ, vJ, vJ, vJ, vJ] [] M Q ↔ (((0 : Int) ≤ w32 (w32 (32 * x2) + x1) ∧ w32 (w32 (32 * x2) + x1) < 1024) ∧ if ¬ M 22053 0 (w32 (w32 (32 * x2) + x1)) = 0 then Tq 335 1 [vR 22 0, vI x1, vI x2, vI (w32 (w32 (32 * x2) + x1)), vJ, vJ, vJ, vJ, vJ, vJ] [] M Q else Q (.inl (some (vI (nb 0)))) M) :=
  (show Tq 335 0 [vR 22 0, vI x1, vI x2, vJ, vJ, vJ, vJ, vJ, vJ, vJ] [] M Q ↔ (Bq 335 de_335 (List.drop 6 bk_335_0) [vR 22 0, vI x1, vI x2, vI (w32 (w32 (32 * x2) + x1)), vJ, vJ, vJ, vJ, vJ, vJ] [] M Q) from Tq_blk (is := bk_335_0) (dd := de_335) rfl rfl).trans (by simp only [t335_0_c6])
/-- EarthOfficeModel shortens block at 18 -/
theorem t335_1 {x1 x2 x3 : Int} {M : Mem} {Q : AR → Mem → Prop} : Tq 335 1 [vR 22 0, vI x1, vI x2, vI x3, vJ, vJ, vJ, vJ, vJ, vJ] [] M Q ↔ (((0 : Int) ≤ x3 ∧ x3 < 1024) ∧ Tq 335 2 [vR 22 0, vI x1, vI x2, vI x3, vI (M 22056 0 x3), vI (-2), vJ, vJ, vJ, vJ] [] M Q) :=
  Tq_blk (is := bk_335_1) (dd := de_335) rfl rfl
/-- EarthOfficeModel shortens block at 30 -/
theorem t335_2 {x1 x2 x3 x4 x5 : Int} {M : Mem} {Q : AR → Mem → Prop} : Tq 335 2 [vR 22 0, vI x1, vI x2, vI x3, vI x4, vI x5, vJ, vJ, vJ, vJ] [] M Q ↔ (if (2 : Int) < x5 then Tq 335 8 [vR 22 0, vJ, vJ, vI x3, vI x4, vJ, vJ, vJ, vJ, vJ] [] M Q else Tq 335 3 [vR 22 0, vI x1, vI x2, vI x3, vI x4, vI x5, vI (-2), vJ, vJ, vJ] [] M Q) :=
  Tq_blk (is := bk_335_2) (dd := de_335) rfl rfl
/-- EarthOfficeModel shortens block at 40 -/
theorem t335_3_c23 {x1 x2 x3 x4 x5 x6 x7 s0 s1 s2 : Int} {M : Mem} {Q : AR → Mem → Prop} : Bq 335 de_335 (List.drop 23 bk_335_3) [vR 22 0, vI x1, vI x2, vI x3, vI x4, vI x5, vI x6, vI x7, vJ, vJ] [vI s0, vI s1, vI s2, vR 22056 0] M Q ↔ (((0 : Int) ≤ w32 (w32 (w32 (s2 * (w32 (s1 + s0))) + x1) + x5) ∧ w32 (w32 (w32 (s2 * (w32 (s1 + s0))) + x1) + x5) < 1024) ∧ Tq 335 5 [vR 22 0, vI x1, vI x2, vI x3, vI x4, vI x5, vI x6, vI x7, vJ, vJ] [vI (M 22056 0 (w32 (w32 (w32 (s2 * (w32 (s1 + s0))) + x1) + x5)))] M Q) :=
  Iff.rfl
theorem t335_3_c17 {x1 x2 x3 x4 x5 x6 x7 s0 : Int} {M : Mem} {Q : AR → Mem → Prop} : Bq 335 de_335 (List.drop 17 bk_335_3) [vR 22 0, vI x1, vI x2, vI x3, vI x4, vI x5, vI x6, vI x7, vJ, vJ] [vI s0] M Q ↔ (if s0 = 0 then Tq 335 4 [vR 22 0, vI x1, vI x2, vI x3, vI x4, vI x5, vI x6, vI x7, vJ, vJ] [] M Q else ((0 : Int) ≤ w32 (w32 (w32 (32 * (w32 (x2 + x6))) + x1) + x5) ∧ w32 (w32 (w32 (32 * (w32 (x2 + x6))) + x1) + x5) < 1024) ∧ Tq 335 5 [vR 22 0, vI x1, vI x2, vI x3, vI x4, vI x5, vI x6, vI x7, vJ, vJ] [vI (M 22056 0 (w32 (w32 (w32 (32 * (w32 (x2 + x6))) + x1) + x5)))] M Q) :=
  (show Bq 335 de_335 (List.drop 17 bk_335_3) [vR 22 0, vI x1, vI x2, vI x3, vI x4, vI x5, vI x6, vI x7, vJ, vJ] [vI s0] M Q ↔ (if s0 = 0 then Tq 335 4 [vR 22 0, vI x1, vI x2, vI x3, vI x4, vI x5, vI x6, vI x7, vJ, vJ] [] M Q else Bq 335 de_335 (List.drop 23 bk_335_3) [vR 22 0, vI x1, vI x2, vI x3, vI x4, vI x5, vI x6, vI x7, vJ, vJ] [vI x6, vI x2, vI 32, vR 22056 0] M Q) from Iff.rfl).trans (by simp only [t335_3_c23])
theorem t335_3_c12 {x1 x2 x3 x4 x5 x6 x7 s0 s1 : Int} {M : Mem} {Q : AR → Mem → Prop} : Bq 335 de_335 (List.drop 12 bk_335_3) [vR 22 0, vI x1, vI x2, vI x3, vI x4, vI x5, vI x6, vI x7, vJ, vJ] [vI s0, vI s1, vR 22 0] M Q ↔ (Tq 327 0 [vR 22 0, vI (w32 (s1 + s0)), vI (w32 (x2 + x6))] [] M (kI fun v1 M1 => if v1 = 0 then Tq 335 4 [vR 22 0, vI x1, vI x2, vI x3, vI x4, vI x5, vI x6, vI x7, vJ, vJ] [] M1 Q else ((0 : Int) ≤ w32 (w32 (w32 (32 * (w32 (x2 + x6))) + x1) + x5) ∧ w32 (w32 (w32 (32 * (w32 (x2 + x6))) + x1) + x5) < 1024) ∧ Tq 335 5 [vR 22 0, vI x1, vI x2, vI x3, vI x4, vI x5, vI x6, vI x7, vJ, vJ] [vI (M1 22056 0 (w32 (w32 (w32 (32 * (w32 (x2 + x6))) + x1) + x5)))] M1 Q)) :=
  (show Bq 335 de_335 (List.drop 12 bk_335_3) [vR 22 0, vI x1, vI x2, vI x3, vI x4, vI x5, vI x6, vI x7, vJ, vJ] [vI s0, vI s1, vR 22 0] M Q ↔ (Tq 327 0 [vR 22 0, vI (w32 (s1 + s0)), vI (w32 (x2 + x6))] [] M (kI fun v1 M1 => Bq 335 de_335 (List.drop 17 bk_335_3) [vR 22 0, vI x1, vI x2, vI x3, vI x4, vI x5, vI x6, vI x7, vJ, vJ] [vI v1] M1 Q)) from Iff.rfl).trans (by simp only [t335_3_c17])
theorem t335_3_c6 {x1 x2 x3 x4 x5 x6 s0 : Int} {M : Mem} {Q : AR → Mem → Prop} : Bq 335 de_335 (List.drop 6 bk_335_3) [vR 22 0, vI x1, vI x2, vI x3, vI x4, vI x5, vI x6, vJ, vJ, vJ] [vI s0] M Q ↔ (if s0 ≤ 0 then Tq 335 4 [vR 22 0, vI x1, vI x2, vI x3, vI x4, vI x5, vI x6, vI s0, vJ, vJ] [] M Q else Tq 327 0 [vR 22 0, vI (w32 (x1 + x5)), vI (w32 (x2 + x6))] [] M (kI fun v1 M1 => if v1 = 0 then Tq 335 4 [vR 22 0, vI x1, vI x2, vI x3, vI x4, vI x5, vI x6, vI s0, vJ, vJ] [] M1 Q else ((0 : Int) ≤ w32 (w32 (w32 (32 * (w32 (x2 + x6))) + x1) + x5) ∧ w32 (w32 (w32 (32 * (w32 (x2 + x6))) + x1) + x5) < 1024) ∧ Tq 335 5 [vR 22 0, vI x1, vI x2, vI x3, vI x4, vI x5, vI x6, vI s0, vJ, vJ] [vI (M1 22056 0 (w32 (w32 (w32 (32 * (w32 (x2 + x6))) + x1) + x5)))] M1 Q)) :=
  (show Bq 335 de_335 (List.drop 6 bk_335_3) [vR 22 0, vI x1, vI x2, vI x3, vI x4, vI x5, vI x6, vJ, vJ, vJ] [vI s0] M Q ↔ (if s0 ≤ 0 then Tq 335 4 [vR 22 0, vI x1, vI x2, vI x3, vI x4, vI x5, vI x6, vI s0, vJ, vJ] [] M Q else Bq 335 de_335 (List.drop 12 bk_335_3) [vR 22 0, vI x1, vI x2, vI x3, vI x4, vI x5, vI x6, vI s0, vJ, vJ] [vI x5, vI x1, vR 22 0] M Q) from Iff.rfl).trans (by simp only [t335_3_c12])
theorem t335_3 {x1 x2 x3 x4 x5 x6 : Int} {M : Mem} {Q : AR → Mem → Prop} : Tq 335 3 [vR 22 0, vI x1, vI x2, vI x3, vI x4, vI x5, vI x6, vJ, vJ, vJ] [] M Q ↔ (if (2 : Int) < x6 then Tq 335 7 [vR 22 0, vI x1, vI x2, vI x3, vI x4, vI x5, vJ, vJ, vJ, vJ] [] M Q else Tq 265 0 [vI x5, vI x6, vJ] [] M (kI fun v1 M1 => if v1 ≤ 0 then Tq 335 4 [vR 22 0, vI x1, vI x2, vI x3, vI x4, vI x5, vI x6, vI v1, vJ, vJ] [] M1 Q else Tq 327 0 [vR 22 0, vI (w32 (x1 + x5)), vI (w32 (x2 + x6))] [] M1 (kI fun v2 M2 => if v2 = 0 then Tq 335 4 [vR 22 0, vI x1, vI x2, vI x3, vI x4, vI x5, vI x6, vI v1, vJ, vJ] [] M2 Q else ((0 : Int) ≤ w32 (w32 (w32 (32 * (w32 (x2 + x6))) + x1) + x5) ∧ w32 (w32 (w32 (32 * (w32 (x2 + x6))) + x1) + x5) < 1024) ∧ Tq 335 5 [vR 22 0, vI x1, vI x2, vI x3, vI x4, vI x5, vI x6, vI v1, vJ, vJ] [vI (M2 22056 0 (w32 (w32 (w32 (32 * (w32 (x2 + x6))) + x1) + x5)))] M2 Q))) :=
  (show Tq 335 3 [vR 22 0, vI x1, vI x2, vI x3, vI x4, vI x5, vI x6, vJ, vJ, vJ] [] M Q ↔ (if (2 : Int) < x6 then Tq 335 7 [vR 22 0, vI x1, vI x2, vI x3, vI x4, vI x5, vJ, vJ, vJ, vJ] [] M Q else Tq 265 0 [vI x5, vI x6, vJ] [] M (kI fun v1 M1 => Bq 335 de_335 (List.drop 6 bk_335_3) [vR 22 0, vI x1, vI x2, vI x3, vI x4, vI x5, vI x6, vJ, vJ, vJ] [vI v1] M1 Q)) from Tq_blk (is := bk_335_3) (dd := de_335) rfl rfl).trans (by simp only [t335_3_c6])
/-- EarthOfficeModel shortens block at 95 -/
theorem t335_4 {x1 x2 x3 x4 x5 x6 x7 : Int} {M : Mem} {Q : AR → Mem → Prop} : Tq 335 4 [vR 22 0, vI x1, vI x2, vI x3, vI x4, vI x5, vI x6, vI x7, vJ, vJ] [] M Q ↔ (Tq 335 5 [vR 22 0, vI x1, vI x2, vI x3, vI x4, vI x5, vI x6, vI x7, vJ, vJ] [vI 2147483647] M Q) :=
  Tq_blk (is := bk_335_4) (dd := de_335) rfl rfl
/-- EarthOfficeModel shortens block at 98 -/
theorem t335_5_c43 {x1 x2 x3 x4 x5 x6 x7 x8 x9 s0 s1 : Int} {M : Mem} {Q : AR → Mem → Prop} : Bq 335 de_335 (List.drop 43 bk_335_5) [vR 22 0, vI x1, vI x2, vI x3, vI x4, vI x5, vI x6, vI x7, vI x8, vI x9] [vI s0, vI s1, vR 22056 0] M Q ↔ (((0 : Int) ≤ s1 ∧ s1 < 1024) ∧ bd (mset M 22056 0 s1 s0) fun M1 => Tq 335 6 [vR 22 0, vI x1, vI x2, vI x3, vI x4, vI x5, vI x6, vJ, vJ, vJ] [] M1 Q) :=
  Iff.rfl
theorem t335_5_c41 {x1 x2 x3 x4 x5 x6 x7 x8 x9 s0 s1 s2 s3 : Int} {M : Mem} {Q : AR → Mem → Prop} : Bq 335 de_335 (List.drop 41 bk_335_5) [vR 22 0, vI x1, vI x2, vI x3, vI x4, vI x5, vI x6, vI x7, vI x8, vI x9] [vI s0, vI s1, vI s2, vI s3, vR 22056 0] M Q ↔ (Tq 8 0 [vI s2, vI (w32 (s1 + s0))] [] M (kI fun v1 M1 => ((0 : Int) ≤ s3 ∧ s3 < 1024) ∧ bd (mset M1 22056 0 s3 v1) fun M2 => Tq 335 6 [vR 22 0, vI x1, vI x2, vI x3, vI x4, vI x5, vI x6, vJ, vJ, vJ] [] M2 Q)) :=
  (show Bq 335 de_335 (List.drop 41 bk_335_5) [vR 22 0, vI x1, vI x2, vI x3, vI x4, vI x5, vI x6, vI x7, vI x8, vI x9] [vI s0, vI s1, vI s2, vI s3, vR 22056 0] M Q ↔ (Tq 8 0 [vI s2, vI (w32 (s1 + s0))] [] M (kI fun v1 M1 => Bq 335 de_335 (List.drop 43 bk_335_5) [vR 22 0, vI x1, vI x2, vI x3, vI x4, vI x5, vI x6, vI x7, vI x8, vI x9] [vI v1, vI s3, vR 22056 0] M1 Q)) from Iff.rfl).trans (by simp only [t335_5_c43])
theorem t335_5_c35 {x1 x2 x3 x4 x5 x6 x7 x8 x9 s0 : Int} {M : Mem} {Q : AR → Mem → Prop} : Bq 335 de_335 (List.drop 35 bk_335_5) [vR 22 0, vI x1, vI x2, vI x3, vI x4, vI x5, vI x6, vI x7, vI x8, vI x9] [vI s0, vR 22056 0] M Q ↔ (((0 : Int) ≤ x3 ∧ x3 < 1024) ∧ Tq 8 0 [vI (M 22056 0 x3), vI (w32 (x8 + x9))] [] M (kI fun v1 M1 => ((0 : Int) ≤ s0 ∧ s0 < 1024) ∧ bd (mset M1 22056 0 s0 v1) fun M2 => Tq 335 6 [vR 22 0, vI x1, vI x2, vI x3, vI x4, vI x5, vI x6, vJ, vJ, vJ] [] M2 Q)) :=
  (show Bq 335 de_335 (List.drop 35 bk_335_5) [vR 22 0, vI x1, vI x2, vI x3, vI x4, vI x5, vI x6, vI x7, vI x8, vI x9] [vI s0, vR 22056 0] M Q ↔ (((0 : Int) ≤ x3 ∧ x3 < 1024) ∧ Bq 335 de_335 (List.drop 41 bk_335_5) [vR 22 0, vI x1, vI x2, vI x3, vI x4, vI x5, vI x6, vI x7, vI x8, vI x9] [vI x9, vI x8, vI (M 22056 0 x3), vI s0, vR 22056 0] M Q) from Iff.rfl).trans (by simp only [t335_5_c41])
theorem t335_5_c29 {x1 x2 x3 x4 x5 x6 x7 x8 s0 s1 s2 : Int} {M : Mem} {Q : AR → Mem → Prop} : Bq 335 de_335 (List.drop 29 bk_335_5) [vR 22 0, vI x1, vI x2, vI x3, vI x4, vI x5, vI x6, vI x7, vI x8, vJ] [vI s0, vI s1, vI s2] M Q ↔ ((¬ w32 (s1 + s0) = 0) ∧ ((0 : Int) ≤ x3 ∧ x3 < 1024) ∧ Tq 8 0 [vI (M 22056 0 x3), vI (w32 (x8 + div32 s2 (w32 (s1 + s0))))] [] M (kI fun v1 M1 => ((0 : Int) ≤ x3 ∧ x3 < 1024) ∧ bd (mset M1 22056 0 x3 v1) fun M2 => Tq 335 6 [vR 22 0, vI x1, vI x2, vI x3, vI x4, vI x5, vI x6, vJ, vJ, vJ] [] M2 Q)) :=
  (show Bq 335 de_335 (List.drop 29 bk_335_5) [vR 22 0, vI x1, vI x2, vI x3, vI x4, vI x5, vI x6, vI x7, vI x8, vJ] [vI s0, vI s1, vI s2] M Q ↔ ((¬ w32 (s1 + s0) = 0) ∧ Bq 335 de_335 (List.drop 35 bk_335_5) [vR 22 0, vI x1, vI x2, vI x3, vI x4, vI x5, vI x6, vI x7, vI x8, vI (div32 s2 (w32 (s1 + s0)))] [vI x3, vR 22056 0] M Q) from Iff.rfl).trans (by simp only [t335_5_c35])
theorem t335_5_c24 {x1 x2 x3 x4 x5 x6 x7 x8 s0 s2 s4 s5 : Int} {M : Mem} {Q : AR → Mem → Prop} : Bq 335 de_335 (List.drop 24 bk_335_5) [vR 22 0, vI x1, vI x2, vI x3, vI x4, vI x5, vI x6, vI x7, vI x8, vJ] [vI s0, vR 22053 0, vI s2, vR 22 0, vI s4, vI s5] M Q ↔ (((0 : Int) ≤ s0 ∧ s0 < 1024) ∧ (¬ (2 : Int) = 0) ∧ Tq 248 0 [vR 22 0, vI (div32 (w32 (s2 + M 22053 0 s0)) 2), vJ] [] M (kI fun v1 M1 => (¬ w32 (s4 + v1) = 0) ∧ ((0 : Int) ≤ x3 ∧ x3 < 1024) ∧ Tq 8 0 [vI (M1 22056 0 x3), vI (w32 (x8 + div32 s5 (w32 (s4 + v1))))] [] M1 (kI fun v2 M2 => ((0 : Int) ≤ x3 ∧ x3 < 1024) ∧ bd (mset M2 22056 0 x3 v2) fun M3 => Tq 335 6 [vR 22 0, vI x1, vI x2, vI x3, vI x4, vI x5, vI x6, vJ, vJ, vJ] [] M3 Q))) :=
  (show Bq 335 de_335 (List.drop 24 bk_335_5) [vR 22 0, vI x1, vI x2, vI x3, vI x4, vI x5, vI x6, vI x7, vI x8, vJ] [vI s0, vR 22053 0, vI s2, vR 22 0, vI s4, vI s5] M Q ↔ (((0 : Int) ≤ s0 ∧ s0 < 1024) ∧ (¬ (2 : Int) = 0) ∧ Tq 248 0 [vR 22 0, vI (div32 (w32 (s2 + M 22053 0 s0)) 2), vJ] [] M (kI fun v1 M1 => Bq 335 de_335 (List.drop 29 bk_335_5) [vR 22 0, vI x1, vI x2, vI x3, vI x4, vI x5, vI x6, vI x7, vI x8, vJ] [vI v1, vI s4, vI s5] M1 Q)) from Iff.rfl).trans (by simp only [t335_5_c29])
theorem t335_5_c18 {x1 x2 x3 x4 x5 x6 x7 x8 s0 s1 s2 s4 s6 s7 : Int} {M : Mem} {Q : AR → Mem → Prop} : Bq 335 de_335 (List.drop 18 bk_335_5) [vR 22 0, vI x1, vI x2, vI x3, vI x4, vI x5, vI x6, vI x7, vI x8, vJ] [vI s0, vI s1, vI s2, vR 22053 0, vI s4, vR 22 0, vI s6, vI s7] M Q ↔ (((0 : Int) ≤ w32 (w32 (w32 (s2 * (w32 (s1 + s0))) + x1) + x5) ∧ w32 (w32 (w32 (s2 * (w32 (s1 + s0))) + x1) + x5) < 1024) ∧ (¬ (2 : Int) = 0) ∧ Tq 248 0 [vR 22 0, vI (div32 (w32 (s4 + M 22053 0 (w32 (w32 (w32 (s2 * (w32 (s1 + s0))) + x1) + x5)))) 2), vJ] [] M (kI fun v1 M1 => (¬ w32 (s6 + v1) = 0) ∧ ((0 : Int) ≤ x3 ∧ x3 < 1024) ∧ Tq 8 0 [vI (M1 22056 0 x3), vI (w32 (x8 + div32 s7 (w32 (s6 + v1))))] [] M1 (kI fun v2 M2 => ((0 : Int) ≤ x3 ∧ x3 < 1024) ∧ bd (mset M2 22056 0 x3 v2) fun M3 => Tq 335 6 [vR 22 0, vI x1, vI x2, vI x3, vI x4, vI x5, vI x6, vJ, vJ, vJ] [] M3 Q))) :=
  (show Bq 335 de_335 (List.drop 18 bk_335_5) [vR 22 0, vI x1, vI x2, vI x3, vI x4, vI x5, vI x6, vI x7, vI x8, vJ] [vI s0, vI s1, vI s2, vR 22053 0, vI s4, vR 22 0, vI s6, vI s7] M Q ↔ (Bq 335 de_335 (List.drop 24 bk_335_5) [vR 22 0, vI x1, vI x2, vI x3, vI x4, vI x5, vI x6, vI x7, vI x8, vJ] [vI (w32 (w32 (w32 (s2 * (w32 (s1 + s0))) + x1) + x5)), vR 22053 0, vI s4, vR 22 0, vI s6, vI s7] M Q) from Iff.rfl).trans (by simp only [t335_5_c24])
theorem t335_5_c12 {x1 x2 x3 x4 x5 x6 x7 x8 s0 s3 s4 : Int} {M : Mem} {Q : AR → Mem → Prop} : Bq 335 de_335 (List.drop 12 bk_335_5) [vR 22 0, vI x1, vI x2, vI x3, vI x4, vI x5, vI x6, vI x7, vI x8, vJ] [vI s0, vR 22053 0, vR 22 0, vI s3, vI s4] M Q ↔ (((0 : Int) ≤ s0 ∧ s0 < 1024) ∧ ((0 : Int) ≤ w32 (w32 (w32 (32 * (w32 (x2 + x6))) + x1) + x5) ∧ w32 (w32 (w32 (32 * (w32 (x2 + x6))) + x1) + x5) < 1024) ∧ (¬ (2 : Int) = 0) ∧ Tq 248 0 [vR 22 0, vI (div32 (w32 (M 22053 0 s0 + M 22053 0 (w32 (w32 (w32 (32 * (w32 (x2 + x6))) + x1) + x5)))) 2), vJ] [] M (kI fun v1 M1 => (¬ w32 (s3 + v1) = 0) ∧ ((0 : Int) ≤ x3 ∧ x3 < 1024) ∧ Tq 8 0 [vI (M1 22056 0 x3), vI (w32 (x8 + div32 s4 (w32 (s3 + v1))))] [] M1 (kI fun v2 M2 => ((0 : Int) ≤ x3 ∧ x3 < 1024) ∧ bd (mset M2 22056 0 x3 v2) fun M3 => Tq 335 6 [vR 22 0, vI x1, vI x2, vI x3, vI x4, vI x5, vI x6, vJ, vJ, vJ] [] M3 Q))) :=
  (show Bq 335 de_335 (List.drop 12 bk_335_5) [vR 22 0, vI x1, vI x2, vI x3, vI x4, vI x5, vI x6, vI x7, vI x8, vJ] [vI s0, vR 22053 0, vR 22 0, vI s3, vI s4] M Q ↔ (((0 : Int) ≤ s0 ∧ s0 < 1024) ∧ Bq 335 de_335 (List.drop 18 bk_335_5) [vR 22 0, vI x1, vI x2, vI x3, vI x4, vI x5, vI x6, vI x7, vI x8, vJ] [vI x6, vI x2, vI 32, vR 22053 0, vI (M 22053 0 s0), vR 22 0, vI s3, vI s4] M Q) from Iff.rfl).trans (by simp only [t335_5_c18])
theorem t335_5_c6 {x1 x2 x3 x4 x5 x6 x7 x8 s0 s1 : Int} {M : Mem} {Q : AR → Mem → Prop} : Bq 335 de_335 (List.drop 6 bk_335_5) [vR 22 0, vI x1, vI x2, vI x3, vI x4, vI x5, vI x6, vI x7, vI x8, vJ] [vI s0, vI s1] M Q ↔ (((0 : Int) ≤ x3 ∧ x3 < 1024) ∧ ((0 : Int) ≤ w32 (w32 (w32 (32 * (w32 (x2 + x6))) + x1) + x5) ∧ w32 (w32 (w32 (32 * (w32 (x2 + x6))) + x1) + x5) < 1024) ∧ (¬ (2 : Int) = 0) ∧ Tq 248 0 [vR 22 0, vI (div32 (w32 (M 22053 0 x3 + M 22053 0 (w32 (w32 (w32 (32 * (w32 (x2 + x6))) + x1) + x5)))) 2), vJ] [] M (kI fun v1 M1 => (¬ w32 (1 + v1) = 0) ∧ ((0 : Int) ≤ x3 ∧ x3 < 1024) ∧ Tq 8 0 [vI (M1 22056 0 x3), vI (w32 (x8 + div32 (w32 (s1 * s0)) (w32 (1 + v1))))] [] M1 (kI fun v2 M2 => ((0 : Int) ≤ x3 ∧ x3 < 1024) ∧ bd (mset M2 22056 0 x3 v2) fun M3 => Tq 335 6 [vR 22 0, vI x1, vI x2, vI x3, vI x4, vI x5, vI x6, vJ, vJ, vJ] [] M3 Q))) :=
  (show Bq 335 de_335 (List.drop 6 bk_335_5) [vR 22 0, vI x1, vI x2, vI x3, vI x4, vI x5, vI x6, vI x7, vI x8, vJ] [vI s0, vI s1] M Q ↔ (Bq 335 de_335 (List.drop 12 bk_335_5) [vR 22 0, vI x1, vI x2, vI x3, vI x4, vI x5, vI x6, vI x7, vI x8, vJ] [vI x3, vR 22053 0, vR 22 0, vI 1, vI (w32 (s1 * s0))] M Q) from Iff.rfl).trans (by simp only [t335_5_c12])
theorem t335_5 {x1 x2 x3 x4 x5 x6 x7 s0 : Int} {M : Mem} {Q : AR → Mem → Prop} : Tq 335 5 [vR 22 0, vI x1, vI x2, vI x3, vI x4, vI x5, vI x6, vI x7, vJ, vJ] [vI s0] M Q ↔ (if s0 = (2147483647 : Int) then Tq 335 6 [vR 22 0, vI x1, vI x2, vI x3, vI x4, vI x5, vI x6, vJ, vJ, vJ] [] M Q else ((0 : Int) ≤ x3 ∧ x3 < 1024) ∧ ((0 : Int) ≤ w32 (w32 (w32 (32 * (w32 (x2 + x6))) + x1) + x5) ∧ w32 (w32 (w32 (32 * (w32 (x2 + x6))) + x1) + x5) < 1024) ∧ (¬ (2 : Int) = 0) ∧ Tq 248 0 [vR 22 0, vI (div32 (w32 (M 22053 0 x3 + M 22053 0 (w32 (w32 (w32 (32 * (w32 (x2 + x6))) + x1) + x5)))) 2), vJ] [] M (kI fun v1 M1 => (¬ w32 (1 + v1) = 0) ∧ ((0 : Int) ≤ x3 ∧ x3 < 1024) ∧ Tq 8 0 [vI (M1 22056 0 x3), vI (w32 (s0 + div32 (w32 (64 * x7)) (w32 (1 + v1))))] [] M1 (kI fun v2 M2 => ((0 : Int) ≤ x3 ∧ x3 < 1024) ∧ bd (mset M2 22056 0 x3 v2) fun M3 => Tq 335 6 [vR 22 0, vI x1, vI x2, vI x3, vI x4, vI x5, vI x6, vJ, vJ, vJ] [] M3 Q))) :=
  (show Tq 335 5 [vR 22 0, vI x1, vI x2, vI x3, vI x4, vI x5, vI x6, vI x7, vJ, vJ] [vI s0] M Q ↔ (if s0 = (2147483647 : Int) then Tq 335 6 [vR 22 0, vI x1, vI x2, vI x3, vI x4, vI x5, vI x6, vJ, vJ, vJ] [] M Q else Bq 335 de_335 (List.drop 6 bk_335_5) [vR 22 0, vI x1, vI x2, vI x3, vI x4, vI x5, vI x6, vI x7, vI s0, vJ] [vI x7, vI 64] M Q) from Tq_blk (is := bk_335_5) (dd := de_335) rfl rfl).trans (by simp only [t335_5_c6])
/-- EarthOfficeModel shortens block at 168 -/
theorem t335_6 {x1 x2 x3 x4 x5 x6 : Int} {M : Mem} {Q : AR → Mem → Prop} : Tq 335 6 [vR 22 0, vI x1, vI x2, vI x3, vI x4, vI x5, vI x6, vJ, vJ, vJ] [] M Q ↔ (Tq 335 3 [vR 22 0, vI x1, vI x2, vI x3, vI x4, vI x5, vI (w32 (x6 + 1)), vJ, vJ, vJ] [] M Q) :=
  Tq_blk (is := bk_335_6) (dd := de_335) rfl rfl
/-- EarthOfficeModel shortens block at 174 -/
theorem t335_7 {x1 x2 x3 x4 x5 : Int} {M : Mem} {Q : AR → Mem → Prop} : Tq 335 7 [vR 22 0, vI x1, vI x2, vI x3, vI x4, vI x5, vJ, vJ, vJ, vJ] [] M Q ↔ (Tq 335 2 [vR 22 0, vI x1, vI x2, vI x3, vI x4, vI (w32 (x5 + 1)), vJ, vJ, vJ, vJ] [] M Q) :=
  Tq_blk (is := bk_335_7) (dd := de_335) rfl rfl
/-- EarthOfficeModel shortens block at 180 -/
theorem t335_8 {x3 x4 : Int} {M : Mem} {Q : AR → Mem → Prop} : Tq 335 8 [vR 22 0, vJ, vJ, vI x3, vI x4, vJ, vJ, vJ, vJ, vJ] [] M Q ↔ (((0 : Int) ≤ x3 ∧ x3 < 1024) ∧ if x4 ≤ M 22056 0 x3 then Tq 335 9 [vJ, vJ, vJ, vJ, vJ, vJ, vJ, vJ, vJ, vJ] [] M Q else Tq 335 10 [vJ, vJ, vJ, vJ, vJ, vJ, vJ, vJ, vJ, vJ] [vI 1] M Q) :=
  Tq_blk (is := bk_335_8) (dd := de_335) rfl rfl
/-- EarthOfficeModel shortens block at 195 -/
theorem t335_9 {M : Mem} {Q : AR → Mem → Prop} : Tq 335 9 [vJ, vJ, vJ, vJ, vJ, vJ, vJ, vJ, vJ, vJ] [] M Q ↔ (Tq 335 10 [vJ, vJ, vJ, vJ, vJ, vJ, vJ, vJ, vJ, vJ] [vI 0] M Q) :=
  Tq_blk (is := bk_335_9) (dd := de_335) rfl rfl
/-- EarthOfficeModel shortens block at 196 -/
theorem t335_10 {s0 : Int} {M : Mem} {Q : AR → Mem → Prop} : Tq 335 10 [vJ, vJ, vJ, vJ, vJ, vJ, vJ, vJ, vJ, vJ] [vI s0] M Q ↔ (Q (.inl (some (vI (nb s0)))) M) :=
  Tq_blk (is := bk_335_10) (dd := de_335) rfl rfl
/-- EarthOfficeModel ruled block at 0 -/
theorem t336_0 {x1 x2 : Int} {M : Mem} {Q : AR → Mem → Prop} : Tq 336 0 [vR 22 0, vI x1, vI x2] [] M Q ↔ (Tq 189 0 [vI x1, vI 0, vI (w32 (M 22 0 57 - 1))] [] M (kI fun v1 M1 => if v1 = 0 then Tq 336 1 [vJ, vJ, vJ] [] M1 Q else Tq 189 0 [vI x2, vI 0, vI 2] [] M1 (kI fun v2 M2 => if ¬ v2 = 0 then Tq 336 2 [vR 22 0, vI x1, vI x2] [] M2 Q else Tq 336 1 [vJ, vJ, vJ] [] M2 Q))) :=
  Tq_blk (is := bk_336_0) (dd := de_336) rfl rfl
/-- EarthOfficeModel ruled block at 23 -/
theorem t336_1 {M : Mem} {Q : AR → Mem → Prop} : Tq 336 1 [vJ, vJ, vJ] [] M Q ↔ (Q (.inl (some (vI (-1)))) M) :=
  Tq_blk (is := bk_336_1) (dd := de_336) rfl rfl
/-- EarthOfficeModel ruled block at 25 -/
theorem t336_2 {x1 x2 : Int} {M : Mem} {Q : AR → Mem → Prop} : Tq 336 2 [vR 22 0, vI x1, vI x2] [] M Q ↔ (if ¬ x2 = 0 then Tq 336 4 [vR 22 0, vI x1, vI x2] [] M Q else ((0 : Int) ≤ x1 ∧ x1 < 8) ∧ if M 22062 0 x1 = 0 then Tq 336 3 [vJ, vJ, vJ] [] M Q else Tq 336 6 [vJ, vJ, vJ] [vI 1] M Q) :=
  Tq_blk (is := bk_336_2) (dd := de_336) rfl rfl
/-- EarthOfficeModel ruled block at 42 -/
theorem t336_3 {M : Mem} {Q : AR → Mem → Prop} : Tq 336 3 [vJ, vJ, vJ] [] M Q ↔ (Tq 336 6 [vJ, vJ, vJ] [vI 0] M Q) :=
  Tq_blk (is := bk_336_3) (dd := de_336) rfl rfl
/-- EarthOfficeModel ruled block at 46 -/
theorem t336_4 {x1 x2 : Int} {M : Mem} {Q : AR → Mem → Prop} : Tq 336 4 [vR 22 0, vI x1, vI x2] [] M Q ↔ (if ¬ x2 = (1 : Int) then Tq 336 5 [vR 22 0, vI x1, vJ] [] M Q else ((0 : Int) ≤ x1 ∧ x1 < 8) ∧ Tq 336 6 [vJ, vJ, vJ] [vI (M 22063 0 x1)] M Q) :=
  Tq_blk (is := bk_336_4) (dd := de_336) rfl rfl
/-- EarthOfficeModel ruled block at 60 -/
theorem t336_5 {x1 : Int} {M : Mem} {Q : AR → Mem → Prop} : Tq 336 5 [vR 22 0, vI x1, vJ] [] M Q ↔ (((0 : Int) ≤ x1 ∧ x1 < 8) ∧ Tq 336 6 [vJ, vJ, vJ] [vI (M 22061 0 x1)] M Q) :=
  Tq_blk (is := bk_336_5) (dd := de_336) rfl rfl
/-- EarthOfficeModel ruled block at 66 -/
theorem t336_6 {s0 : Int} {M : Mem} {Q : AR → Mem → Prop} : Tq 336 6 [vJ, vJ, vJ] [vI s0] M Q ↔ (Q (.inl (some (vI s0))) M) :=
  Tq_blk (is := bk_336_6) (dd := de_336) rfl rfl
/-- EarthOfficeModel message block at 0 -/
theorem t337_0 {x1 x2 : Int} {M : Mem} {Q : AR → Mem → Prop} : Tq 337 0 [vR 22 0, vI x1, vI x2] [] M Q ↔ (Tq 189 0 [vI x1, vI 0, vI (w32 (M 22 0 82 - 1))] [] M (kI fun v1 M1 => if v1 = 0 then Tq 337 1 [vJ, vJ, vJ] [] M1 Q else Tq 189 0 [vI x2, vI 0, vI 7] [] M1 (kI fun v2 M2 => if v2 = 0 then Tq 337 1 [vJ, vJ, vJ] [] M2 Q else ((0 : Int) ≤ w32 (w32 (8 * x1) + x2) ∧ w32 (w32 (8 * x1) + x2) < 1600) ∧ Tq 337 2 [vJ, vJ, vJ] [vI (M2 22084 0 (w32 (w32 (8 * x1) + x2)))] M2 Q))) :=
  Tq_blk (is := bk_337_0) (dd := de_337) rfl rfl
/-- EarthOfficeModel message block at 38 -/
theorem t337_1 {M : Mem} {Q : AR → Mem → Prop} : Tq 337 1 [vJ, vJ, vJ] [] M Q ↔ (Tq 337 2 [vJ, vJ, vJ] [vI (-99999999)] M Q) :=
  Tq_blk (is := bk_337_1) (dd := de_337) rfl rfl
/-- EarthOfficeModel message block at 40 -/
theorem t337_2 {s0 : Int} {M : Mem} {Q : AR → Mem → Prop} : Tq 337 2 [vJ, vJ, vJ] [vI s0] M Q ↔ (Q (.inl (some (vI s0))) M) :=
  Tq_blk (is := bk_337_2) (dd := de_337) rfl rfl
/-- EarthOfficeModel text block at 0 -/
theorem t338_0 {x1 x2 : Int} {M : Mem} {Q : AR → Mem → Prop} : Tq 338 0 [vR 22 0, vI x1, vI x2] [] M Q ↔ (Tq 189 0 [vI x1, vI 0, vI (w32 (M 22 0 82 - 1))] [] M (kI fun v1 M1 => if v1 = 0 then Tq 338 1 [vJ, vJ, vJ] [] M1 Q else ((0 : Int) ≤ w32 (w32 (8 * x1) + 7) ∧ w32 (w32 (8 * x1) + 7) < 1600) ∧ Tq 189 0 [vI x2, vI 0, vI (w32 (M1 22084 0 (w32 (w32 (8 * x1) + 7)) - 1))] [] M1 (kI fun v2 M2 => if v2 = 0 then Tq 338 1 [vJ, vJ, vJ] [] M2 Q else ((0 : Int) ≤ w32 (w32 (160 * x1) + x2) ∧ w32 (w32 (160 * x1) + x2) < 32000) ∧ Tq 338 2 [vJ, vJ, vJ] [vI (and32 (M2 22085 0 (w32 (w32 (160 * x1) + x2))) 255)] M2 Q))) :=
  Tq_blk (is := bk_338_0) (dd := de_338) rfl rfl
/-- EarthOfficeModel text block at 55 -/
theorem t338_1 {M : Mem} {Q : AR → Mem → Prop} : Tq 338 1 [vJ, vJ, vJ] [] M Q ↔ (Tq 338 2 [vJ, vJ, vJ] [vI (-99999999)] M Q) :=
  Tq_blk (is := bk_338_1) (dd := de_338) rfl rfl
/-- EarthOfficeModel text block at 57 -/
theorem t338_2 {s0 : Int} {M : Mem} {Q : AR → Mem → Prop} : Tq 338 2 [vJ, vJ, vJ] [vI s0] M Q ↔ (Q (.inl (some (vI s0))) M) :=
  Tq_blk (is := bk_338_2) (dd := de_338) rfl rfl
/-- EarthOfficeModel received block at 0 -/
theorem t339_0 {x1 : Int} {M : Mem} {Q : AR → Mem → Prop} : Tq 339 0 [vR 22 0, vI x1, vJ, vJ] [] M Q ↔ (Tq 189 0 [vI x1, vI 0, vI (w32 (M 22 0 76 - 1))] [] M (kI fun v1 M1 => if ¬ v1 = 0 then Tq 339 1 [vR 22 0, vI x1, vJ, vJ] [] M1 Q else Q (.inl (some (vI (-1)))) M1)) :=
  Tq_blk (is := bk_339_0) (dd := de_339) rfl rfl
/-- EarthOfficeModel received block at 16 -/
theorem t339_1 {x1 : Int} {M : Mem} {Q : AR → Mem → Prop} : Tq 339 1 [vR 22 0, vI x1, vJ, vJ] [] M Q ↔ (Tq 339 2 [vR 22 0, vI x1, vI 0, vI 0] [] M Q) :=
  Tq_blk (is := bk_339_1) (dd := de_339) rfl rfl
/-- EarthOfficeModel received block at 20 -/
theorem t339_2 {x1 x2 x3 : Int} {M : Mem} {Q : AR → Mem → Prop} : Tq 339 2 [vR 22 0, vI x1, vI x2, vI x3] [] M Q ↔ (if M 22 0 82 ≤ x3 then Tq 339 5 [vJ, vJ, vI x2, vJ] [] M Q else ((0 : Int) ≤ w32 (8 * x3) ∧ w32 (8 * x3) < 1600) ∧ if ¬ M 22084 0 (w32 (8 * x3)) = x1 then Tq 339 3 [vR 22 0, vI x1, vJ, vI x3] [vI x2] M Q else ((0 : Int) ≤ w32 (w32 (8 * x3) + 4) ∧ w32 (w32 (8 * x3) + 4) < 1600) ∧ Tq 339 4 [vR 22 0, vI x1, vJ, vI x3] [vI (M 22084 0 (w32 (w32 (8 * x3) + 4))), vI x2] M Q) :=
  Tq_blk (is := bk_339_2) (dd := de_339) rfl rfl
/-- EarthOfficeModel received block at 56 -/
theorem t339_3 {x1 x3 s0 : Int} {M : Mem} {Q : AR → Mem → Prop} : Tq 339 3 [vR 22 0, vI x1, vJ, vI x3] [vI s0] M Q ↔ (Tq 339 4 [vR 22 0, vI x1, vJ, vI x3] [vI 0, vI s0] M Q) :=
  Tq_blk (is := bk_339_3) (dd := de_339) rfl rfl
/-- EarthOfficeModel received block at 57 -/
theorem t339_4 {x1 x3 s0 s1 : Int} {M : Mem} {Q : AR → Mem → Prop} : Tq 339 4 [vR 22 0, vI x1, vJ, vI x3] [vI s0, vI s1] M Q ↔ (Tq 339 2 [vR 22 0, vI x1, vI (w32 (s1 + s0)), vI (w32 (x3 + 1))] [] M Q) :=
  Tq_blk (is := bk_339_4) (dd := de_339) rfl rfl
/-- EarthOfficeModel received block at 65 -/
theorem t339_5 {x2 : Int} {M : Mem} {Q : AR → Mem → Prop} : Tq 339 5 [vJ, vJ, vI x2, vJ] [] M Q ↔ (Q (.inl (some (vI x2))) M) :=
  Tq_blk (is := bk_339_5) (dd := de_339) rfl rfl
/-- EarthOfficeModel count block at 0 -/
theorem t340_0 {x1 : Int} {M : Mem} {Q : AR → Mem → Prop} : Tq 340 0 [vR 22 0, vI x1] [] M Q ↔ (if x1 = 0 then Tq 340 1 [vR 22 0, vJ] [] M Q else if x1 = 1 then Tq 340 2 [vR 22 0, vJ] [] M Q else if x1 = 2 then Tq 340 3 [vR 22 0, vJ] [] M Q else if x1 = 3 then Tq 340 4 [vR 22 0, vJ] [] M Q else if x1 = 4 then Tq 340 5 [vR 22 0, vJ] [] M Q else if x1 = 5 then Tq 340 6 [vR 22 0, vJ] [] M Q else if x1 = 6 then Tq 340 7 [vR 22 0, vJ] [] M Q else if x1 = 7 then Tq 340 8 [vR 22 0, vJ] [] M Q else if x1 = 8 then Tq 340 9 [vR 22 0, vJ] [] M Q else if x1 = 9 then Tq 340 10 [vR 22 0, vJ] [] M Q else if x1 = 10 then Tq 340 11 [vR 22 0, vJ] [] M Q else if x1 = 11 then Tq 340 12 [vR 22 0, vJ] [] M Q else if x1 = 12 then Tq 340 13 [vR 22 0, vJ] [] M Q else Tq 340 14 [vJ, vJ] [] M Q) :=
  Tq_blk (is := bk_340_0) (dd := de_340) rfl rfl
/-- EarthOfficeModel count block at 68 -/
theorem t340_1 {M : Mem} {Q : AR → Mem → Prop} : Tq 340 1 [vR 22 0, vJ] [] M Q ↔ (Q (.inl (some (vI (M 22 0 9)))) M) :=
  Tq_blk (is := bk_340_1) (dd := de_340) rfl rfl
/-- EarthOfficeModel count block at 73 -/
theorem t340_2 {M : Mem} {Q : AR → Mem → Prop} : Tq 340 2 [vR 22 0, vJ] [] M Q ↔ (Q (.inl (some (vI (M 22 0 23)))) M) :=
  Tq_blk (is := bk_340_2) (dd := de_340) rfl rfl
/-- EarthOfficeModel count block at 78 -/
theorem t340_3 {M : Mem} {Q : AR → Mem → Prop} : Tq 340 3 [vR 22 0, vJ] [] M Q ↔ (Q (.inl (some (vI (M 22 0 28)))) M) :=
  Tq_blk (is := bk_340_3) (dd := de_340) rfl rfl
/-- EarthOfficeModel count block at 83 -/
theorem t340_4 {M : Mem} {Q : AR → Mem → Prop} : Tq 340 4 [vR 22 0, vJ] [] M Q ↔ (Q (.inl (some (vI (M 22 0 43)))) M) :=
  Tq_blk (is := bk_340_4) (dd := de_340) rfl rfl
/-- EarthOfficeModel count block at 88 -/
theorem t340_5 {M : Mem} {Q : AR → Mem → Prop} : Tq 340 5 [vR 22 0, vJ] [] M Q ↔ (Q (.inl (some (vI (M 22 0 57)))) M) :=
  Tq_blk (is := bk_340_5) (dd := de_340) rfl rfl
/-- EarthOfficeModel count block at 93 -/
theorem t340_6 {M : Mem} {Q : AR → Mem → Prop} : Tq 340 6 [vR 22 0, vJ] [] M Q ↔ (Q (.inl (some (vI (M 22 0 76)))) M) :=
  Tq_blk (is := bk_340_6) (dd := de_340) rfl rfl
/-- EarthOfficeModel count block at 98 -/
theorem t340_7 {M : Mem} {Q : AR → Mem → Prop} : Tq 340 7 [vR 22 0, vJ] [] M Q ↔ (Q (.inl (some (vI (M 22 0 82)))) M) :=
  Tq_blk (is := bk_340_7) (dd := de_340) rfl rfl
/-- EarthOfficeModel count block at 103 -/
theorem t340_8 {M : Mem} {Q : AR → Mem → Prop} : Tq 340 8 [vR 22 0, vJ] [] M Q ↔ (Q (.inl (some (vI (M 22 0 83)))) M) :=
  Tq_blk (is := bk_340_8) (dd := de_340) rfl rfl
/-- EarthOfficeModel count block at 108 -/
theorem t340_9 {M : Mem} {Q : AR → Mem → Prop} : Tq 340 9 [vR 22 0, vJ] [] M Q ↔ (Q (.inl (some (vI (M 22 0 6)))) M) :=
  Tq_blk (is := bk_340_9) (dd := de_340) rfl rfl
/-- EarthOfficeModel count block at 113 -/
theorem t340_10 {M : Mem} {Q : AR → Mem → Prop} : Tq 340 10 [vR 22 0, vJ] [] M Q ↔ (Q (.inl (some (vI (M 22 0 5)))) M) :=
  Tq_blk (is := bk_340_10) (dd := de_340) rfl rfl
/-- EarthOfficeModel count block at 118 -/
theorem t340_11 {M : Mem} {Q : AR → Mem → Prop} : Tq 340 11 [vR 22 0, vJ] [] M Q ↔ (Q (.inl (some (vI (M 22 0 81)))) M) :=
  Tq_blk (is := bk_340_11) (dd := de_340) rfl rfl
/-- EarthOfficeModel count block at 123 -/
theorem t340_12 {M : Mem} {Q : AR → Mem → Prop} : Tq 340 12 [vR 22 0, vJ] [] M Q ↔ (Tq 241 0 [vR 22 0, vJ, vJ] [] M (kI fun v1 M1 => Q (.inl (some (vI v1))) M1)) :=
  Tq_blk (is := bk_340_12) (dd := de_340) rfl rfl
/-- EarthOfficeModel count block at 128 -/
theorem t340_13 {M : Mem} {Q : AR → Mem → Prop} : Tq 340 13 [vR 22 0, vJ] [] M Q ↔ (Q (.inl (some (vI (M 22 0 3)))) M) :=
  Tq_blk (is := bk_340_13) (dd := de_340) rfl rfl
/-- EarthOfficeModel count block at 133 -/
theorem t340_14 {M : Mem} {Q : AR → Mem → Prop} : Tq 340 14 [vJ, vJ] [] M Q ↔ (Q (.inl (some (vI (-1)))) M) :=
  Tq_blk (is := bk_340_14) (dd := de_340) rfl rfl
/-- EarthOffice$State rule block at 0 -/
theorem t341_0 {M : Mem} {Q : AR → Mem → Prop} : Tq 341 0 [vR 4 0] [] M Q ↔ (((0 : Int) ≤ M 4 0 5 ∧ M 4 0 5 < 8) ∧ Tq 110 0 [vR 12 (M 4 0 5), vR 12 8, vJ] [] M (kV fun M1 => bd (mset M1 4 0 5 (w32 (M1 4 0 5 + 1))) fun M2 => Q (.inl none) M2)) :=
  Tq_blk (is := bk_341_0) (dd := de_341) rfl rfl
/-- EarthOffice$State tick block at 0 -/
theorem t342_0 {M : Mem} {Q : AR → Mem → Prop} : Tq 342 0 [vR 4 0, vJ, vJ, vJ] [] M Q ↔ (bd (mset M 4 0 10 (w32 (M 4 0 10 + 1))) fun M1 => Tq 380 0 [vR 8 0, vI (M1 4 0 10), vJ] [] M1 (kV fun M2 => Tq 342 1 [vR 4 0, vI 0, vJ, vJ] [] M2 Q)) :=
  Tq_blk (is := bk_342_0) (dd := de_342) rfl rfl
/-- EarthOffice$State tick block at 23 -/
theorem t342_1 {x1 : Int} {M : Mem} {Q : AR → Mem → Prop} : Tq 342 1 [vR 4 0, vI x1, vJ, vJ] [] M Q ↔ (if M 4 0 5 ≤ x1 then Tq 342 3 [vR 4 0, vJ, vJ, vJ] [] M Q else ((0 : Int) ≤ x1 ∧ x1 < 8) ∧ Tq 343 0 [vR 4 0, vR 12 x1, vJ, vJ, vJ, vJ] [] M (kI fun v1 M1 => if v1 = 0 then Tq 342 2 [vR 4 0, vI x1, vR 12 x1, vI v1] [] M1 Q else if ¬ M1 12 x1 6 = 0 then Tq 342 2 [vR 4 0, vI x1, vR 12 x1, vI v1] [] M1 Q else bd (mset M1 12 x1 7 (w32 (M1 12 x1 7 + 1))) fun M2 => Tq 385 0 [vR 9 0, vR 4 0, vI x1, vJ, vJ] [] M2 (kV fun M3 => Tq 342 2 [vR 4 0, vI x1, vR 12 x1, vI v1] [] M3 Q))) :=
  Tq_blk (is := bk_342_1) (dd := de_342) rfl rfl
/-- EarthOffice$State tick block at 74 -/
theorem t342_2 {x1 x2 x3 : Int} {M : Mem} {Q : AR → Mem → Prop} : Tq 342 2 [vR 4 0, vI x1, vR 12 x2, vI x3] [] M Q ↔ ((x3 = 0 ∨ x3 = 1) ∧ bd (mset M 12 x2 6 x3) fun M1 => Tq 342 1 [vR 4 0, vI (w32 (x1 + 1)), vJ, vJ] [] M1 Q) :=
  Tq_blk (is := bk_342_2) (dd := de_342) rfl rfl
/-- EarthOffice$State tick block at 85 -/
theorem t342_3 {M : Mem} {Q : AR → Mem → Prop} : Tq 342 3 [vR 4 0, vJ, vJ, vJ] [] M Q ↔ (Tq 391 0 [vR 9 0, vI (M 4 0 10), vJ] [] M (kV fun M1 => Q (.inl none) M1)) :=
  Tq_blk (is := bk_342_3) (dd := de_342) rfl rfl
/-- EarthOffice$State isTrue block at 0 -/
theorem t343_0 {x1 : Int} {M : Mem} {Q : AR → Mem → Prop} : Tq 343 0 [vR 4 0, vR 12 x1, vJ, vJ, vJ, vJ] [] M Q ↔ (Tq 364 0 [vR 6 0, vJ, vJ] [] M (kI fun v1 M1 => Tq 343 1 [vR 4 0, vR 12 x1, vI 0, vI v1, vI 0, vJ] [] M1 Q)) :=
  Tq_blk (is := bk_343_0) (dd := de_343) rfl rfl
/-- EarthOffice$State isTrue block at 13 -/
theorem t343_1 {x1 x2 x3 x4 : Int} {M : Mem} {Q : AR → Mem → Prop} : Tq 343 1 [vR 4 0, vR 12 x1, vI x2, vI x3, vI x4, vJ] [] M Q ↔ (if M 12 x1 4 ≤ x4 then Tq 343 10 [vR 4 0, vJ, vJ, vJ, vJ, vJ] [] M Q else ((0 : Int) ≤ x4 ∧ x4 < 60) ∧ if (20 : Int) ≤ M 12000 x1 x4 then Tq 343 2 [vR 4 0, vR 12 x1, vI x2, vI x3, vI x4, vI (M 12000 x1 x4)] [] M Q else ((0 : Int) ≤ x4 ∧ x4 < 60) ∧ ((0 : Int) ≤ x4 ∧ x4 < 60) ∧ Tq 344 0 [vR 4 0, vI (M 12000 x1 x4), vI (M 12001 x1 x4), vI (M 12002 x1 x4), vI x3] [] M (kI fun v1 M1 => ((0 : Int) ≤ x2 ∧ x2 < 61) ∧ bd (mset M1 4011 0 x2 v1) fun M2 => Tq 343 9 [vR 4 0, vR 12 x1, vI (w32 (x2 + 1)), vI x3, vI x4, vJ] [] M2 Q)) :=
  Tq_blk (is := bk_343_1) (dd := de_343) rfl rfl
/-- EarthOffice$State isTrue block at 72 -/
theorem t343_2 {x1 x2 x3 x4 x5 : Int} {M : Mem} {Q : AR → Mem → Prop} : Tq 343 2 [vR 4 0, vR 12 x1, vI x2, vI x3, vI x4, vI x5] [] M Q ↔ (if ¬ x5 = (32 : Int) then Tq 343 3 [vR 4 0, vR 12 x1, vI x2, vI x3, vI x4, vI x5] [] M Q else ((0 : Int) ≤ w32 (x2 - 1) ∧ w32 (x2 - 1) < 61) ∧ ((0 : Int) ≤ w32 (x2 - 1) ∧ w32 (x2 - 1) < 61) ∧ bd (mset M 4011 0 (w32 (x2 - 1)) (w64 (1 - (M 4011 0 (w32 (x2 - 1)))))) fun M1 => Tq 343 9 [vR 4 0, vR 12 x1, vI x2, vI x3, vI x4, vJ] [] M1 Q) :=
  Tq_blk (is := bk_343_2) (dd := de_343) rfl rfl
/-- EarthOffice$State isTrue block at 100 -/
theorem t343_3 {x1 x2 x3 x4 x5 : Int} {M : Mem} {Q : AR → Mem → Prop} : Tq 343 3 [vR 4 0, vR 12 x1, vI x2, vI x3, vI x4, vI x5] [] M Q ↔ (if ¬ x5 = (33 : Int) then Tq 343 8 [vR 4 0, vR 12 x1, vI x2, vI x3, vI x4, vI x5] [] M Q else ((0 : Int) ≤ w32 (x2 - 1) ∧ w32 (x2 - 1) < 61) ∧ if ¬ cmp64 (M 4011 0 (w32 (x2 - 1))) 1 = 0 then Tq 343 4 [vR 4 0, vR 12 x1, vI x2, vI x3, vI x4, vJ] [vI x4, vR 12003 x1] M Q else ((0 : Int) ≤ x4 ∧ x4 < 60) ∧ Tq 343 5 [vR 4 0, vR 12 x1, vI x2, vI x3, vI x4, vJ] [vI (w32 (M 12003 x1 x4 + 1)), vI x4, vR 12003 x1] M Q) :=
  Tq_blk (is := bk_343_3) (dd := de_343) rfl rfl
/-- EarthOffice$State isTrue block at 138 -/
theorem t343_4 {x1 x2 x3 x4 s0 s1 : Int} {M : Mem} {Q : AR → Mem → Prop} : Tq 343 4 [vR 4 0, vR 12 x1, vI x2, vI x3, vI x4, vJ] [vI s0, vR 12003 s1] M Q ↔ (Tq 343 5 [vR 4 0, vR 12 x1, vI x2, vI x3, vI x4, vJ] [vI 0, vI s0, vR 12003 s1] M Q) :=
  Tq_blk (is := bk_343_4) (dd := de_343) rfl rfl
/-- EarthOffice$State isTrue block at 139 -/
theorem t343_5 {x1 x2 x3 x4 s0 s1 s2 : Int} {M : Mem} {Q : AR → Mem → Prop} : Tq 343 5 [vR 4 0, vR 12 x1, vI x2, vI x3, vI x4, vJ] [vI s0, vI s1, vR 12003 s2] M Q ↔ (((0 : Int) ≤ s1 ∧ s1 < 60) ∧ bd (mset M 12003 s2 s1 s0) fun M1 => ((0 : Int) ≤ x4 ∧ x4 < 60) ∧ ((0 : Int) ≤ x4 ∧ x4 < 60) ∧ if M1 12003 x1 x4 < M1 12001 x1 x4 then Tq 343 6 [vR 4 0, vR 12 x1, vI x2, vI x3, vI x4, vJ] [vI (w32 (x2 - 1)), vR 4011 0] M1 Q else Tq 343 7 [vR 4 0, vR 12 x1, vI x2, vI x3, vI x4, vJ] [vL 1, vI (w32 (x2 - 1)), vR 4011 0] M1 Q) :=
  Tq_blk (is := bk_343_5) (dd := de_343) rfl rfl
/-- EarthOffice$State isTrue block at 168 -/
theorem t343_6 {x1 x2 x3 x4 s0 : Int} {M : Mem} {Q : AR → Mem → Prop} : Tq 343 6 [vR 4 0, vR 12 x1, vI x2, vI x3, vI x4, vJ] [vI s0, vR 4011 0] M Q ↔ (Tq 343 7 [vR 4 0, vR 12 x1, vI x2, vI x3, vI x4, vJ] [vL 0, vI s0, vR 4011 0] M Q) :=
  Tq_blk (is := bk_343_6) (dd := de_343) rfl rfl
/-- EarthOffice$State isTrue block at 169 -/
theorem t343_7 {x1 x2 x3 x4 s0 s1 : Int} {M : Mem} {Q : AR → Mem → Prop} : Tq 343 7 [vR 4 0, vR 12 x1, vI x2, vI x3, vI x4, vJ] [vL s0, vI s1, vR 4011 0] M Q ↔ (((0 : Int) ≤ s1 ∧ s1 < 61) ∧ bd (mset M 4011 0 s1 s0) fun M1 => Tq 343 9 [vR 4 0, vR 12 x1, vI x2, vI x3, vI x4, vJ] [] M1 Q) :=
  Tq_blk (is := bk_343_7) (dd := de_343) rfl rfl
/-- EarthOffice$State isTrue block at 173 -/
theorem t343_8 {x1 x2 x3 x4 x5 : Int} {M : Mem} {Q : AR → Mem → Prop} : Tq 343 8 [vR 4 0, vR 12 x1, vI x2, vI x3, vI x4, vI x5] [] M Q ↔ (((0 : Int) ≤ w32 (w32 (x2 + (-1)) - 1) ∧ w32 (w32 (x2 + (-1)) - 1) < 61) ∧ ((0 : Int) ≤ w32 (x2 + (-1)) ∧ w32 (x2 + (-1)) < 61) ∧ Tq 346 0 [vI x5, vL (M 4011 0 (w32 (w32 (x2 + (-1)) - 1))), vJ, vL (M 4011 0 (w32 (x2 + (-1)))), vJ] [] M (kL fun v1 M1 => ((0 : Int) ≤ w32 (w32 (x2 + (-1)) - 1) ∧ w32 (w32 (x2 + (-1)) - 1) < 61) ∧ bd (mset M1 4011 0 (w32 (w32 (x2 + (-1)) - 1)) v1) fun M2 => Tq 343 9 [vR 4 0, vR 12 x1, vI (w32 (x2 + (-1))), vI x3, vI x4, vJ] [] M2 Q)) :=
  Tq_blk (is := bk_343_8) (dd := de_343) rfl rfl
/-- EarthOffice$State isTrue block at 203 -/
theorem t343_9 {x1 x2 x3 x4 : Int} {M : Mem} {Q : AR → Mem → Prop} : Tq 343 9 [vR 4 0, vR 12 x1, vI x2, vI x3, vI x4, vJ] [] M Q ↔ (Tq 343 1 [vR 4 0, vR 12 x1, vI x2, vI x3, vI (w32 (x4 + 1)), vJ] [] M Q) :=
  Tq_blk (is := bk_343_9) (dd := de_343) rfl rfl
/-- EarthOffice$State isTrue block at 209 -/
theorem t343_10 {M : Mem} {Q : AR → Mem → Prop} : Tq 343 10 [vR 4 0, vJ, vJ, vJ, vJ, vJ] [] M Q ↔ (((0 : Int) ≤ 0 ∧ (0 : Int) < 61) ∧ if ¬ cmp64 (M 4011 0 0) 1 = 0 then Tq 343 11 [vJ, vJ, vJ, vJ, vJ, vJ] [] M Q else Tq 343 12 [vJ, vJ, vJ, vJ, vJ, vJ] [vI 1] M Q) :=
  Tq_blk (is := bk_343_10) (dd := de_343) rfl rfl
/-- EarthOffice$State isTrue block at 224 -/
theorem t343_11 {M : Mem} {Q : AR → Mem → Prop} : Tq 343 11 [vJ, vJ, vJ, vJ, vJ, vJ] [] M Q ↔ (Tq 343 12 [vJ, vJ, vJ, vJ, vJ, vJ] [vI 0] M Q) :=
  Tq_blk (is := bk_343_11) (dd := de_343) rfl rfl
/-- EarthOffice$State isTrue block at 225 -/
theorem t343_12 {s0 : Int} {M : Mem} {Q : AR → Mem → Prop} : Tq 343 12 [vJ, vJ, vJ, vJ, vJ, vJ] [vI s0] M Q ↔ (Q (.inl (some (vI (nb s0)))) M) :=
  Tq_blk (is := bk_343_12) (dd := de_343) rfl rfl
/-- EarthOffice$State value block at 0 -/
theorem t344_0 {x1 x2 x3 x4 : Int} {M : Mem} {Q : AR → Mem → Prop} : Tq 344 0 [vR 4 0, vI x1, vI x2, vI x3, vI x4] [] M Q ↔ (if x1 = 0 then Tq 344 1 [vJ, vJ, vI x2, vJ, vJ] [] M Q else if x1 = 9 then Tq 344 2 [vR 4 0, vJ, vJ, vJ, vJ] [] M Q else if x1 = 10 then Tq 344 3 [vR 4 0, vJ, vI x2, vJ, vJ] [] M Q else if x1 = 11 then Tq 344 4 [vR 4 0, vJ, vI x2, vJ, vJ] [] M Q else if x1 = 12 then Tq 344 7 [vR 4 0, vJ, vI x2, vJ, vJ] [] M Q else if x1 = 14 then Tq 344 8 [vR 4 0, vJ, vI x2, vJ, vJ] [] M Q else Tq 344 9 [vR 4 0, vI x1, vI x2, vI x3, vI x4] [] M Q) :=
  Tq_blk (is := bk_344_0) (dd := de_344) rfl rfl
/-- EarthOffice$State value block at 76 -/
theorem t344_1 {x2 : Int} {M : Mem} {Q : AR → Mem → Prop} : Tq 344 1 [vJ, vJ, vI x2, vJ, vJ] [] M Q ↔ (Q (.inl (some (vI x2))) M) :=
  Tq_blk (is := bk_344_1) (dd := de_344) rfl rfl
/-- EarthOffice$State value block at 78 -/
theorem t344_2 {M : Mem} {Q : AR → Mem → Prop} : Tq 344 2 [vR 4 0, vJ, vJ, vJ, vJ] [] M Q ↔ (Q (.inl (some (vI (M 4 0 10)))) M) :=
  Tq_blk (is := bk_344_2) (dd := de_344) rfl rfl
/-- EarthOffice$State value block at 83 -/
theorem t344_3 {x2 : Int} {M : Mem} {Q : AR → Mem → Prop} : Tq 344 3 [vR 4 0, vJ, vI x2, vJ, vJ] [] M Q ↔ (Tq 381 0 [vR 8 0, vI x2] [] M (kI fun v1 M1 => Q (.inl (some (vI v1))) M1)) :=
  Tq_blk (is := bk_344_3) (dd := de_344) rfl rfl
/-- EarthOffice$State value block at 92 -/
theorem t344_4 {x2 : Int} {M : Mem} {Q : AR → Mem → Prop} : Tq 344 4 [vR 4 0, vJ, vI x2, vJ, vJ] [] M Q ↔ (Tq 375 0 [vR 8 0, vI x2] [] M (kI fun v1 M1 => if v1 = 0 then Tq 344 5 [vJ, vJ, vJ, vJ, vJ] [] M1 Q else Tq 378 0 [vR 8 0, vI x2, vI (M1 4 0 10), vJ, vJ, vJ] [] M1 (kI fun v2 M2 => Tq 344 6 [vJ, vJ, vJ, vJ, vJ] [vI v2] M2 Q))) :=
  Tq_blk (is := bk_344_4) (dd := de_344) rfl rfl
/-- EarthOffice$State value block at 118 -/
theorem t344_5 {M : Mem} {Q : AR → Mem → Prop} : Tq 344 5 [vJ, vJ, vJ, vJ, vJ] [] M Q ↔ (Tq 344 6 [vJ, vJ, vJ, vJ, vJ] [vI 0] M Q) :=
  Tq_blk (is := bk_344_5) (dd := de_344) rfl rfl
/-- EarthOffice$State value block at 119 -/
theorem t344_6 {s0 : Int} {M : Mem} {Q : AR → Mem → Prop} : Tq 344 6 [vJ, vJ, vJ, vJ, vJ] [vI s0] M Q ↔ (Q (.inl (some (vI s0))) M) :=
  Tq_blk (is := bk_344_6) (dd := de_344) rfl rfl
/-- EarthOffice$State value block at 120 -/
theorem t344_7 {x2 : Int} {M : Mem} {Q : AR → Mem → Prop} : Tq 344 7 [vR 4 0, vJ, vI x2, vJ, vJ] [] M Q ↔ (Tq 382 0 [vR 8 0, vI x2] [] M (kI fun v1 M1 => Q (.inl (some (vI v1))) M1)) :=
  Tq_blk (is := bk_344_7) (dd := de_344) rfl rfl
/-- EarthOffice$State value block at 129 -/
theorem t344_8 {x2 : Int} {M : Mem} {Q : AR → Mem → Prop} : Tq 344 8 [vR 4 0, vJ, vI x2, vJ, vJ] [] M Q ↔ (Tq 365 0 [vR 6 0, vI x2, vI (M 4 0 10), vJ, vJ] [] M (kI fun v1 M1 => Q (.inl (some (vI v1))) M1)) :=
  Tq_blk (is := bk_344_8) (dd := de_344) rfl rfl
/-- EarthOffice$State value block at 142 -/
theorem t344_9 {x1 x2 x3 x4 : Int} {M : Mem} {Q : AR → Mem → Prop} : Tq 344 9 [vR 4 0, vI x1, vI x2, vI x3, vI x4] [] M Q ↔ (if ¬ x4 = (-99999999) then Tq 344 10 [vR 4 0, vI x1, vI x2, vI x3, vI x4] [] M Q else Tq 344 11 [vJ, vJ, vJ, vJ, vJ] [vI 0] M Q) :=
  Tq_blk (is := bk_344_9) (dd := de_344) rfl rfl
/-- EarthOffice$State value block at 153 -/
theorem t344_10 {x1 x2 x3 x4 : Int} {M : Mem} {Q : AR → Mem → Prop} : Tq 344 10 [vR 4 0, vI x1, vI x2, vI x3, vI x4] [] M Q ↔ (((0 : Int) ≤ x4 ∧ x4 < 24) ∧ Tq 345 0 [vR 4 0, vR 7 x4, vI x1, vI x2, vI x3] [] M (kI fun v1 M1 => Tq 344 11 [vJ, vJ, vJ, vJ, vJ] [vI v1] M1 Q)) :=
  Tq_blk (is := bk_344_10) (dd := de_344) rfl rfl
/-- EarthOffice$State value block at 170 -/
theorem t344_11 {s0 : Int} {M : Mem} {Q : AR → Mem → Prop} : Tq 344 11 [vJ, vJ, vJ, vJ, vJ] [vI s0] M Q ↔ (Q (.inl (some (vI s0))) M) :=
  Tq_blk (is := bk_344_11) (dd := de_344) rfl rfl
/-- EarthOffice$State ofEvent block at 0 -/
theorem t345_0 {x1 x2 x3 x4 : Int} {M : Mem} {Q : AR → Mem → Prop} : Tq 345 0 [vR 4 0, vR 7 x1, vI x2, vI x3, vI x4] [] M Q ↔ (if x2 = 1 then Tq 345 1 [vJ, vR 7 x1, vJ, vJ, vJ] [] M Q else if x2 = 2 then Tq 345 4 [vJ, vR 7 x1, vJ, vJ, vJ] [] M Q else if x2 = 3 then Tq 345 5 [vJ, vR 7 x1, vJ, vJ, vJ] [] M Q else if x2 = 4 then Tq 345 6 [vJ, vR 7 x1, vJ, vJ, vJ] [] M Q else if x2 = 5 then Tq 345 7 [vJ, vR 7 x1, vJ, vJ, vJ] [] M Q else if x2 = 6 then Tq 345 8 [vJ, vR 7 x1, vJ, vJ, vJ] [] M Q else if x2 = 7 then Tq 345 9 [vR 4 0, vR 7 x1, vJ, vJ, vJ] [] M Q else if x2 = 13 then Tq 345 10 [vJ, vR 7 x1, vJ, vI x3, vI x4] [] M Q else Tq 345 11 [vJ, vJ, vJ, vJ, vJ] [] M Q) :=
  Tq_blk (is := bk_345_0) (dd := de_345) rfl rfl
/-- EarthOffice$State ofEvent block at 68 -/
theorem t345_1 {x1 : Int} {M : Mem} {Q : AR → Mem → Prop} : Tq 345 1 [vJ, vR 7 x1, vJ, vJ, vJ] [] M Q ↔ (Tq 369 0 [vR 7 x1, vI 6] [] M (kI fun v1 M1 => if ¬ v1 = (-99999999) then Tq 345 2 [vJ, vR 7 x1, vJ, vJ, vJ] [] M1 Q else Tq 345 3 [vJ, vJ, vJ, vJ, vJ] [vI 0] M1 Q)) :=
  Tq_blk (is := bk_345_1) (dd := de_345) rfl rfl
/-- EarthOffice$State ofEvent block at 83 -/
theorem t345_2 {x1 : Int} {M : Mem} {Q : AR → Mem → Prop} : Tq 345 2 [vJ, vR 7 x1, vJ, vJ, vJ] [] M Q ↔ (Tq 369 0 [vR 7 x1, vI 6] [] M (kI fun v1 M1 => Tq 345 3 [vJ, vJ, vJ, vJ, vJ] [vI v1] M1 Q)) :=
  Tq_blk (is := bk_345_2) (dd := de_345) rfl rfl
/-- EarthOffice$State ofEvent block at 89 -/
theorem t345_3 {s0 : Int} {M : Mem} {Q : AR → Mem → Prop} : Tq 345 3 [vJ, vJ, vJ, vJ, vJ] [vI s0] M Q ↔ (Q (.inl (some (vI s0))) M) :=
  Tq_blk (is := bk_345_3) (dd := de_345) rfl rfl
/-- EarthOffice$State ofEvent block at 90 -/
theorem t345_4 {x1 : Int} {M : Mem} {Q : AR → Mem → Prop} : Tq 345 4 [vJ, vR 7 x1, vJ, vJ, vJ] [] M Q ↔ (Tq 369 0 [vR 7 x1, vI 1] [] M (kI fun v1 M1 => Q (.inl (some (vI v1))) M1)) :=
  Tq_blk (is := bk_345_4) (dd := de_345) rfl rfl
/-- EarthOffice$State ofEvent block at 96 -/
theorem t345_5 {x1 : Int} {M : Mem} {Q : AR → Mem → Prop} : Tq 345 5 [vJ, vR 7 x1, vJ, vJ, vJ] [] M Q ↔ (Tq 369 0 [vR 7 x1, vI 2] [] M (kI fun v1 M1 => Q (.inl (some (vI v1))) M1)) :=
  Tq_blk (is := bk_345_5) (dd := de_345) rfl rfl
/-- EarthOffice$State ofEvent block at 102 -/
theorem t345_6 {x1 : Int} {M : Mem} {Q : AR → Mem → Prop} : Tq 345 6 [vJ, vR 7 x1, vJ, vJ, vJ] [] M Q ↔ (Tq 369 0 [vR 7 x1, vI 3] [] M (kI fun v1 M1 => Q (.inl (some (vI v1))) M1)) :=
  Tq_blk (is := bk_345_6) (dd := de_345) rfl rfl
/-- EarthOffice$State ofEvent block at 108 -/
theorem t345_7 {x1 : Int} {M : Mem} {Q : AR → Mem → Prop} : Tq 345 7 [vJ, vR 7 x1, vJ, vJ, vJ] [] M Q ↔ (Tq 369 0 [vR 7 x1, vI 4] [] M (kI fun v1 M1 => Q (.inl (some (vI v1))) M1)) :=
  Tq_blk (is := bk_345_7) (dd := de_345) rfl rfl
/-- EarthOffice$State ofEvent block at 114 -/
theorem t345_8 {x1 : Int} {M : Mem} {Q : AR → Mem → Prop} : Tq 345 8 [vJ, vR 7 x1, vJ, vJ, vJ] [] M Q ↔ (Q (.inl (some (vI (M 7 x1 3)))) M) :=
  Tq_blk (is := bk_345_8) (dd := de_345) rfl rfl
/-- EarthOffice$State ofEvent block at 119 -/
theorem t345_9 {x1 : Int} {M : Mem} {Q : AR → Mem → Prop} : Tq 345 9 [vR 4 0, vR 7 x1, vJ, vJ, vJ] [] M Q ↔ (Tq 369 0 [vR 7 x1, vI 7] [] M (kI fun v1 M1 => Q (.inl (some (vI (w32 (M 4 0 10 - v1))))) M1)) :=
  Tq_blk (is := bk_345_9) (dd := de_345) rfl rfl
/-- EarthOffice$State ofEvent block at 131 -/
theorem t345_10 {x1 x3 x4 : Int} {M : Mem} {Q : AR → Mem → Prop} : Tq 345 10 [vJ, vR 7 x1, vJ, vI x3, vI x4] [] M Q ↔ (Tq 8 0 [vI 63, vI x3] [] M (kI fun v1 M1 => Tq 8 0 [vI 63, vI x4] [] M1 (kI fun v2 M2 => Tq 369 0 [vR 7 x1, vI 1] [] M2 (kI fun v3 M3 => Tq 369 0 [vR 7 x1, vI 2] [] M3 (kI fun v4 M4 => Tq 61 0 [vI v1, vI v2, vI v3, vI v4] [] M4 (kI fun v5 M5 => Q (.inl (some (vI v5))) M5)))))) :=
  Tq_blk (is := bk_345_10) (dd := de_345) rfl rfl
/-- EarthOffice$State ofEvent block at 158 -/
theorem t345_11 {M : Mem} {Q : AR → Mem → Prop} : Tq 345 11 [vJ, vJ, vJ, vJ, vJ] [] M Q ↔ (Q (.inl (some (vI 1))) M) :=
  Tq_blk (is := bk_345_11) (dd := de_345) rfl rfl
/-- EarthOffice$State two block at 0 -/
theorem t346_0 {x0 x1 x3 : Int} {M : Mem} {Q : AR → Mem → Prop} : Tq 346 0 [vI x0, vL x1, vJ, vL x3, vJ] [] M Q ↔ (if x0 = 20 then Tq 346 1 [vJ, vL x1, vJ, vL x3, vJ] [] M Q else if x0 = 21 then Tq 346 2 [vJ, vL x1, vJ, vL x3, vJ] [] M Q else if x0 = 22 then Tq 346 3 [vJ, vL x1, vJ, vL x3, vJ] [] M Q else if x0 = 23 then Tq 346 4 [vJ, vL x1, vJ, vL x3, vJ] [] M Q else if x0 = 24 then Tq 346 7 [vJ, vL x1, vJ, vL x3, vJ] [] M Q else if x0 = 25 then Tq 346 10 [vJ, vL x1, vJ, vL x3, vJ] [] M Q else if x0 = 26 then Tq 346 13 [vJ, vL x1, vJ, vL x3, vJ] [] M Q else if x0 = 27 then Tq 346 16 [vJ, vL x1, vJ, vL x3, vJ] [] M Q else if x0 = 28 then Tq 346 19 [vJ, vL x1, vJ, vL x3, vJ] [] M Q else if x0 = 29 then Tq 346 22 [vJ, vL x1, vJ, vL x3, vJ] [] M Q else if x0 = 30 then Tq 346 25 [vJ, vL x1, vJ, vL x3, vJ] [] M Q else Tq 346 26 [vJ, vL x1, vJ, vL x3, vJ] [] M Q) :=
  Tq_blk (is := bk_346_0) (dd := de_346) rfl rfl
/-- EarthOffice$State two block at 60 -/
theorem t346_1 {x1 x3 : Int} {M : Mem} {Q : AR → Mem → Prop} : Tq 346 1 [vJ, vL x1, vJ, vL x3, vJ] [] M Q ↔ (Tq 347 0 [vL (w64 (x1 + x3)), vJ] [] M (kL fun v1 M1 => Q (.inl (some (vL v1))) M1)) :=
  Tq_blk (is := bk_346_1) (dd := de_346) rfl rfl
/-- EarthOffice$State two block at 67 -/
theorem t346_2 {x1 x3 : Int} {M : Mem} {Q : AR → Mem → Prop} : Tq 346 2 [vJ, vL x1, vJ, vL x3, vJ] [] M Q ↔ (Tq 347 0 [vL (w64 (x1 - x3)), vJ] [] M (kL fun v1 M1 => Q (.inl (some (vL v1))) M1)) :=
  Tq_blk (is := bk_346_2) (dd := de_346) rfl rfl
/-- EarthOffice$State two block at 74 -/
theorem t346_3 {x1 x3 : Int} {M : Mem} {Q : AR → Mem → Prop} : Tq 346 3 [vJ, vL x1, vJ, vL x3, vJ] [] M Q ↔ (Tq 347 0 [vL (w64 (x1 * x3)), vJ] [] M (kL fun v1 M1 => Q (.inl (some (vL v1))) M1)) :=
  Tq_blk (is := bk_346_3) (dd := de_346) rfl rfl
/-- EarthOffice$State two block at 81 -/
theorem t346_4 {x1 x3 : Int} {M : Mem} {Q : AR → Mem → Prop} : Tq 346 4 [vJ, vL x1, vJ, vL x3, vJ] [] M Q ↔ (if ¬ cmp64 x3 0 = 0 then Tq 346 5 [vJ, vL x1, vJ, vL x3, vJ] [] M Q else Tq 346 6 [vJ, vJ, vJ, vJ, vJ] [vL 0] M Q) :=
  Tq_blk (is := bk_346_4) (dd := de_346) rfl rfl
/-- EarthOffice$State two block at 91 -/
theorem t346_5 {x1 x3 : Int} {M : Mem} {Q : AR → Mem → Prop} : Tq 346 5 [vJ, vL x1, vJ, vL x3, vJ] [] M Q ↔ ((¬ x3 = 0) ∧ Tq 347 0 [vL (div64 x1 x3), vJ] [] M (kL fun v1 M1 => Tq 346 6 [vJ, vJ, vJ, vJ, vJ] [vL v1] M1 Q)) :=
  Tq_blk (is := bk_346_5) (dd := de_346) rfl rfl
/-- EarthOffice$State two block at 97 -/
theorem t346_6 {s0 : Int} {M : Mem} {Q : AR → Mem → Prop} : Tq 346 6 [vJ, vJ, vJ, vJ, vJ] [vL s0] M Q ↔ (Q (.inl (some (vL s0))) M) :=
  Tq_blk (is := bk_346_6) (dd := de_346) rfl rfl
/-- EarthOffice$State two block at 98 -/
theorem t346_7 {x1 x3 : Int} {M : Mem} {Q : AR → Mem → Prop} : Tq 346 7 [vJ, vL x1, vJ, vL x3, vJ] [] M Q ↔ (if 0 ≤ cmp64 x1 x3 then Tq 346 8 [vJ, vJ, vJ, vJ, vJ] [] M Q else Tq 346 9 [vJ, vJ, vJ, vJ, vJ] [vL 1] M Q) :=
  Tq_blk (is := bk_346_7) (dd := de_346) rfl rfl
/-- EarthOffice$State two block at 108 -/
theorem t346_8 {M : Mem} {Q : AR → Mem → Prop} : Tq 346 8 [vJ, vJ, vJ, vJ, vJ] [] M Q ↔ (Tq 346 9 [vJ, vJ, vJ, vJ, vJ] [vL 0] M Q) :=
  Tq_blk (is := bk_346_8) (dd := de_346) rfl rfl
/-- EarthOffice$State two block at 109 -/
theorem t346_9 {s0 : Int} {M : Mem} {Q : AR → Mem → Prop} : Tq 346 9 [vJ, vJ, vJ, vJ, vJ] [vL s0] M Q ↔ (Q (.inl (some (vL s0))) M) :=
  Tq_blk (is := bk_346_9) (dd := de_346) rfl rfl
/-- EarthOffice$State two block at 110 -/
theorem t346_10 {x1 x3 : Int} {M : Mem} {Q : AR → Mem → Prop} : Tq 346 10 [vJ, vL x1, vJ, vL x3, vJ] [] M Q ↔ (if 0 < cmp64 x1 x3 then Tq 346 11 [vJ, vJ, vJ, vJ, vJ] [] M Q else Tq 346 12 [vJ, vJ, vJ, vJ, vJ] [vL 1] M Q) :=
  Tq_blk (is := bk_346_10) (dd := de_346) rfl rfl
/-- EarthOffice$State two block at 120 -/
theorem t346_11 {M : Mem} {Q : AR → Mem → Prop} : Tq 346 11 [vJ, vJ, vJ, vJ, vJ] [] M Q ↔ (Tq 346 12 [vJ, vJ, vJ, vJ, vJ] [vL 0] M Q) :=
  Tq_blk (is := bk_346_11) (dd := de_346) rfl rfl
/-- EarthOffice$State two block at 121 -/
theorem t346_12 {s0 : Int} {M : Mem} {Q : AR → Mem → Prop} : Tq 346 12 [vJ, vJ, vJ, vJ, vJ] [vL s0] M Q ↔ (Q (.inl (some (vL s0))) M) :=
  Tq_blk (is := bk_346_12) (dd := de_346) rfl rfl
/-- EarthOffice$State two block at 122 -/
theorem t346_13 {x1 x3 : Int} {M : Mem} {Q : AR → Mem → Prop} : Tq 346 13 [vJ, vL x1, vJ, vL x3, vJ] [] M Q ↔ (if ¬ cmp64 x1 x3 = 0 then Tq 346 14 [vJ, vJ, vJ, vJ, vJ] [] M Q else Tq 346 15 [vJ, vJ, vJ, vJ, vJ] [vL 1] M Q) :=
  Tq_blk (is := bk_346_13) (dd := de_346) rfl rfl
/-- EarthOffice$State two block at 132 -/
theorem t346_14 {M : Mem} {Q : AR → Mem → Prop} : Tq 346 14 [vJ, vJ, vJ, vJ, vJ] [] M Q ↔ (Tq 346 15 [vJ, vJ, vJ, vJ, vJ] [vL 0] M Q) :=
  Tq_blk (is := bk_346_14) (dd := de_346) rfl rfl
/-- EarthOffice$State two block at 133 -/
theorem t346_15 {s0 : Int} {M : Mem} {Q : AR → Mem → Prop} : Tq 346 15 [vJ, vJ, vJ, vJ, vJ] [vL s0] M Q ↔ (Q (.inl (some (vL s0))) M) :=
  Tq_blk (is := bk_346_15) (dd := de_346) rfl rfl
/-- EarthOffice$State two block at 134 -/
theorem t346_16 {x1 x3 : Int} {M : Mem} {Q : AR → Mem → Prop} : Tq 346 16 [vJ, vL x1, vJ, vL x3, vJ] [] M Q ↔ (if cmp64 x1 x3 < 0 then Tq 346 17 [vJ, vJ, vJ, vJ, vJ] [] M Q else Tq 346 18 [vJ, vJ, vJ, vJ, vJ] [vL 1] M Q) :=
  Tq_blk (is := bk_346_16) (dd := de_346) rfl rfl
/-- EarthOffice$State two block at 144 -/
theorem t346_17 {M : Mem} {Q : AR → Mem → Prop} : Tq 346 17 [vJ, vJ, vJ, vJ, vJ] [] M Q ↔ (Tq 346 18 [vJ, vJ, vJ, vJ, vJ] [vL 0] M Q) :=
  Tq_blk (is := bk_346_17) (dd := de_346) rfl rfl
/-- EarthOffice$State two block at 145 -/
theorem t346_18 {s0 : Int} {M : Mem} {Q : AR → Mem → Prop} : Tq 346 18 [vJ, vJ, vJ, vJ, vJ] [vL s0] M Q ↔ (Q (.inl (some (vL s0))) M) :=
  Tq_blk (is := bk_346_18) (dd := de_346) rfl rfl
/-- EarthOffice$State two block at 146 -/
theorem t346_19 {x1 x3 : Int} {M : Mem} {Q : AR → Mem → Prop} : Tq 346 19 [vJ, vL x1, vJ, vL x3, vJ] [] M Q ↔ (if cmp64 x1 x3 ≤ 0 then Tq 346 20 [vJ, vJ, vJ, vJ, vJ] [] M Q else Tq 346 21 [vJ, vJ, vJ, vJ, vJ] [vL 1] M Q) :=
  Tq_blk (is := bk_346_19) (dd := de_346) rfl rfl
/-- EarthOffice$State two block at 156 -/
theorem t346_20 {M : Mem} {Q : AR → Mem → Prop} : Tq 346 20 [vJ, vJ, vJ, vJ, vJ] [] M Q ↔ (Tq 346 21 [vJ, vJ, vJ, vJ, vJ] [vL 0] M Q) :=
  Tq_blk (is := bk_346_20) (dd := de_346) rfl rfl
/-- EarthOffice$State two block at 157 -/
theorem t346_21 {s0 : Int} {M : Mem} {Q : AR → Mem → Prop} : Tq 346 21 [vJ, vJ, vJ, vJ, vJ] [vL s0] M Q ↔ (Q (.inl (some (vL s0))) M) :=
  Tq_blk (is := bk_346_21) (dd := de_346) rfl rfl
/-- EarthOffice$State two block at 158 -/
theorem t346_22 {x1 x3 : Int} {M : Mem} {Q : AR → Mem → Prop} : Tq 346 22 [vJ, vL x1, vJ, vL x3, vJ] [] M Q ↔ (if cmp64 x1 x3 = 0 then Tq 346 23 [vJ, vJ, vJ, vJ, vJ] [] M Q else Tq 346 24 [vJ, vJ, vJ, vJ, vJ] [vL 1] M Q) :=
  Tq_blk (is := bk_346_22) (dd := de_346) rfl rfl
/-- EarthOffice$State two block at 168 -/
theorem t346_23 {M : Mem} {Q : AR → Mem → Prop} : Tq 346 23 [vJ, vJ, vJ, vJ, vJ] [] M Q ↔ (Tq 346 24 [vJ, vJ, vJ, vJ, vJ] [vL 0] M Q) :=
  Tq_blk (is := bk_346_23) (dd := de_346) rfl rfl
/-- EarthOffice$State two block at 169 -/
theorem t346_24 {s0 : Int} {M : Mem} {Q : AR → Mem → Prop} : Tq 346 24 [vJ, vJ, vJ, vJ, vJ] [vL s0] M Q ↔ (Q (.inl (some (vL s0))) M) :=
  Tq_blk (is := bk_346_24) (dd := de_346) rfl rfl
/-- EarthOffice$State two block at 170 -/
theorem t346_25 {x1 x3 : Int} {M : Mem} {Q : AR → Mem → Prop} : Tq 346 25 [vJ, vL x1, vJ, vL x3, vJ] [] M Q ↔ (Q (.inl (some (vL (and64 x1 x3)))) M) :=
  Tq_blk (is := bk_346_25) (dd := de_346) rfl rfl
/-- EarthOffice$State two block at 174 -/
theorem t346_26 {x1 x3 : Int} {M : Mem} {Q : AR → Mem → Prop} : Tq 346 26 [vJ, vL x1, vJ, vL x3, vJ] [] M Q ↔ (Q (.inl (some (vL (or64 x1 x3)))) M) :=
  Tq_blk (is := bk_346_26) (dd := de_346) rfl rfl
/-- EarthOffice$State bounded block at 0 -/
theorem t347_0 {x0 : Int} {M : Mem} {Q : AR → Mem → Prop} : Tq 347 0 [vL x0, vJ] [] M Q ↔ (Tq 11 0 [vL 1000000000, vJ, vL x0, vJ] [] M (kL fun v1 M1 => Tq 12 0 [vL (-1000000000), vJ, vL v1, vJ] [] M1 (kL fun v2 M2 => Q (.inl (some (vL v2))) M2))) :=
  Tq_blk (is := bk_347_0) (dd := de_347) rfl rfl
/-- EarthOffice$State clear block at 0 -/
theorem t348_0 {M : Mem} {Q : AR → Mem → Prop} : Tq 348 0 [vR 4 0] [] M Q ↔ (Tq 359 0 [vR 5 0] [] M (kV fun M1 => Tq 160 0 [vR 3 0] [] M1 (kV fun M2 => Tq 366 0 [vR 6 0] [] M2 (kV fun M3 => Tq 383 0 [vR 8 0] [] M3 (kV fun M4 => bd (mset M4 4 0 5 0) fun M5 => Tq 393 0 [vR 9 0] [] M5 (kV fun M6 => bd (mset M6 4 0 10 0) fun M7 => Q (.inl none) M7)))))) :=
  Tq_blk (is := bk_348_0) (dd := de_348) rfl rfl
/-- EarthOffice$State redo block at 0 -/
theorem t349_0 {x1 x2 x3 : Int} {M : Mem} {Q : AR → Mem → Prop} : Tq 349 0 [vR 4 0, vR 13 x1, vI x2, vI x3, vJ, vJ, vJ, vJ] [] M Q ↔ (if x3 ≤ (4 : Int) then Tq 349 1 [vR 4 0, vR 13 x1, vI x2, vI x3, vJ, vJ, vJ, vJ] [] M Q else Tq 117 0 [vR 13 x1, vI (w32 (x2 + 1))] [] M (kI fun v1 M1 => Tq 349 2 [vR 4 0, vR 13 x1, vI x2, vI x3, vJ, vJ, vJ, vJ] [vI v1] M1 Q)) :=
  Tq_blk (is := bk_349_0) (dd := de_349) rfl rfl
/-- EarthOffice$State redo block at 15 -/
theorem t349_1 {x1 x2 x3 : Int} {M : Mem} {Q : AR → Mem → Prop} : Tq 349 1 [vR 4 0, vR 13 x1, vI x2, vI x3, vJ, vJ, vJ, vJ] [] M Q ↔ (Tq 349 2 [vR 4 0, vR 13 x1, vI x2, vI x3, vJ, vJ, vJ, vJ] [vI 0] M Q) :=
  Tq_blk (is := bk_349_1) (dd := de_349) rfl rfl
/-- EarthOffice$State redo block at 16 -/
theorem t349_2 {x1 x2 x3 s0 : Int} {M : Mem} {Q : AR → Mem → Prop} : Tq 349 2 [vR 4 0, vR 13 x1, vI x2, vI x3, vJ, vJ, vJ, vJ] [vI s0] M Q ↔ (if x3 ≤ (8 : Int) then Tq 349 3 [vR 4 0, vR 13 x1, vI x2, vI x3, vI s0, vJ, vJ, vJ] [] M Q else Tq 117 0 [vR 13 x1, vI (w32 (x2 + 5))] [] M (kI fun v1 M1 => Tq 349 4 [vR 4 0, vR 13 x1, vI x2, vI x3, vI s0, vJ, vJ, vJ] [vI v1] M1 Q)) :=
  Tq_blk (is := bk_349_2) (dd := de_349) rfl rfl
/-- EarthOffice$State redo block at 34 -/
theorem t349_3 {x1 x2 x3 x4 : Int} {M : Mem} {Q : AR → Mem → Prop} : Tq 349 3 [vR 4 0, vR 13 x1, vI x2, vI x3, vI x4, vJ, vJ, vJ] [] M Q ↔ (Tq 349 4 [vR 4 0, vR 13 x1, vI x2, vI x3, vI x4, vJ, vJ, vJ] [vI 0] M Q) :=
  Tq_blk (is := bk_349_3) (dd := de_349) rfl rfl
/-- EarthOffice$State redo block at 35 -/
theorem t349_4 {x1 x2 x3 x4 s0 : Int} {M : Mem} {Q : AR → Mem → Prop} : Tq 349 4 [vR 4 0, vR 13 x1, vI x2, vI x3, vI x4, vJ, vJ, vJ] [vI s0] M Q ↔ (if x3 ≤ (12 : Int) then Tq 349 5 [vR 4 0, vR 13 x1, vI x2, vI x3, vI x4, vI s0, vJ, vJ] [] M Q else Tq 117 0 [vR 13 x1, vI (w32 (x2 + 9))] [] M (kI fun v1 M1 => Tq 349 6 [vR 4 0, vR 13 x1, vI x2, vI x3, vI x4, vI s0, vJ, vJ] [vI v1] M1 Q)) :=
  Tq_blk (is := bk_349_4) (dd := de_349) rfl rfl
/-- EarthOffice$State redo block at 54 -/
theorem t349_5 {x1 x2 x3 x4 x5 : Int} {M : Mem} {Q : AR → Mem → Prop} : Tq 349 5 [vR 4 0, vR 13 x1, vI x2, vI x3, vI x4, vI x5, vJ, vJ] [] M Q ↔ (Tq 349 6 [vR 4 0, vR 13 x1, vI x2, vI x3, vI x4, vI x5, vJ, vJ] [vI 0] M Q) :=
  Tq_blk (is := bk_349_5) (dd := de_349) rfl rfl
/-- EarthOffice$State redo block at 55 -/
theorem t349_6 {x1 x2 x3 x4 x5 s0 : Int} {M : Mem} {Q : AR → Mem → Prop} : Tq 349 6 [vR 4 0, vR 13 x1, vI x2, vI x3, vI x4, vI x5, vJ, vJ] [vI s0] M Q ↔ (Tq 114 0 [vR 13 x1, vI x2] [] M (kI fun v1 M1 => if v1 = 68 then Tq 349 11 [vR 4 0, vJ, vJ, vJ, vI x4, vI x5, vI s0, vJ] [] M1 Q else if v1 = 69 then Tq 349 12 [vR 4 0, vR 13 x1, vI x2, vJ, vJ, vJ, vJ, vJ] [] M1 Q else if v1 = 71 then Tq 349 17 [vR 4 0, vJ, vJ, vJ, vJ, vJ, vJ, vJ] [] M1 Q else if v1 = 77 then Tq 349 16 [vR 4 0, vJ, vJ, vJ, vI x4, vI x5, vJ, vJ] [] M1 Q else if v1 = 78 then Tq 349 18 [vR 4 0, vJ, vJ, vJ, vI x4, vI x5, vJ, vJ] [] M1 Q else if v1 = 82 then Tq 349 8 [vR 4 0, vR 13 x1, vI x2, vJ, vI x4, vI x5, vI s0, vJ] [] M1 Q else if v1 = 83 then Tq 349 7 [vR 4 0, vJ, vJ, vJ, vI x4, vI x5, vJ, vJ] [] M1 Q else if v1 = 86 then Tq 349 13 [vR 4 0, vR 13 x1, vI x2, vJ, vI x4, vJ, vJ, vJ] [] M1 Q else Tq 349 19 [vR 4 0, vR 13 x1, vI x2, vI x3, vI x4, vI x5, vI s0, vJ] [] M1 Q)) :=
  Tq_blk (is := bk_349_6) (dd := de_349) rfl rfl
/-- EarthOffice$State redo block at 152 -/
theorem t349_7 {x4 x5 : Int} {M : Mem} {Q : AR → Mem → Prop} : Tq 349 7 [vR 4 0, vJ, vJ, vJ, vI x4, vI x5, vJ, vJ] [] M Q ↔ (Tq 352 0 [vR 5 0, vI x4, vI x5] [] M (kV fun M1 => Tq 349 20 [vJ, vJ, vJ, vJ, vJ, vJ, vJ, vJ] [] M1 Q)) :=
  Tq_blk (is := bk_349_7) (dd := de_349) rfl rfl
/-- EarthOffice$State redo block at 166 -/
theorem t349_8 {x1 x2 x4 x5 x6 : Int} {M : Mem} {Q : AR → Mem → Prop} : Tq 349 8 [vR 4 0, vR 13 x1, vI x2, vJ, vI x4, vI x5, vI x6, vJ] [] M Q ↔ (Tq 349 9 [vR 4 0, vR 13 x1, vI x2, vJ, vI x4, vI x5, vI x6, vI 0] [] M Q) :=
  Tq_blk (is := bk_349_8) (dd := de_349) rfl rfl
/-- EarthOffice$State redo block at 169 -/
theorem t349_9 {x1 x2 x4 x5 x6 x7 : Int} {M : Mem} {Q : AR → Mem → Prop} : Tq 349 9 [vR 4 0, vR 13 x1, vI x2, vJ, vI x4, vI x5, vI x6, vI x7] [] M Q ↔ (if x6 ≤ x7 then Tq 349 10 [vJ, vJ, vJ, vJ, vJ, vJ, vJ, vJ] [] M Q else Tq 117 0 [vR 13 x1, vI (w32 (w32 (x2 + 13) + w32 (4 * x7)))] [] M (kI fun v1 M1 => Tq 356 0 [vR 5 0, vI x4, vI (w32 (x5 + x7)), vI v1, vJ] [] M1 (kI fun v2 M2 => Tq 349 9 [vR 4 0, vR 13 x1, vI x2, vJ, vI x4, vI x5, vI x6, vI (w32 (x7 + 1))] [] M2 Q))) :=
  Tq_blk (is := bk_349_9) (dd := de_349) rfl rfl
/-- EarthOffice$State redo block at 210 -/
theorem t349_10 {M : Mem} {Q : AR → Mem → Prop} : Tq 349 10 [vJ, vJ, vJ, vJ, vJ, vJ, vJ, vJ] [] M Q ↔ (Tq 349 20 [vJ, vJ, vJ, vJ, vJ, vJ, vJ, vJ] [] M Q) :=
  Tq_blk (is := bk_349_10) (dd := de_349) rfl rfl
/-- EarthOffice$State redo block at 213 -/
theorem t349_11 {x4 x5 x6 : Int} {M : Mem} {Q : AR → Mem → Prop} : Tq 349 11 [vR 4 0, vJ, vJ, vJ, vI x4, vI x5, vI x6, vJ] [] M Q ↔ (Tq 161 0 [vR 3 0, vI x4, vI x5, vI x6] [] M (kV fun M1 => Tq 349 20 [vJ, vJ, vJ, vJ, vJ, vJ, vJ, vJ] [] M1 Q)) :=
  Tq_blk (is := bk_349_11) (dd := de_349) rfl rfl
/-- EarthOffice$State redo block at 229 -/
theorem t349_12 {x1 x2 : Int} {M : Mem} {Q : AR → Mem → Prop} : Tq 349 12 [vR 4 0, vR 13 x1, vI x2, vJ, vJ, vJ, vJ, vJ] [] M Q ↔ (Tq 350 0 [vR 4 0, vR 13 x1, vI (w32 (x2 + 1)), vJ, vJ, vJ, vJ] [] M (kV fun M1 => Tq 349 20 [vJ, vJ, vJ, vJ, vJ, vJ, vJ, vJ] [] M1 Q)) :=
  Tq_blk (is := bk_349_12) (dd := de_349) rfl rfl
/-- EarthOffice$State redo block at 240 -/
theorem t349_13 {x1 x2 x4 : Int} {M : Mem} {Q : AR → Mem → Prop} : Tq 349 13 [vR 4 0, vR 13 x1, vI x2, vJ, vI x4, vJ, vJ, vJ] [] M Q ↔ (Tq 349 14 [vR 4 0, vR 13 x1, vI x2, vJ, vI x4, vJ, vJ, vI 0] [] M Q) :=
  Tq_blk (is := bk_349_13) (dd := de_349) rfl rfl
/-- EarthOffice$State redo block at 243 -/
theorem t349_14 {x1 x2 x4 x7 : Int} {M : Mem} {Q : AR → Mem → Prop} : Tq 349 14 [vR 4 0, vR 13 x1, vI x2, vJ, vI x4, vJ, vJ, vI x7] [] M Q ↔ (if (7 : Int) ≤ x7 then Tq 349 15 [vR 4 0, vJ, vJ, vJ, vI x4, vJ, vJ, vJ] [] M Q else Tq 117 0 [vR 13 x1, vI (w32 (w32 (x2 + 5) + w32 (4 * x7)))] [] M (kI fun v1 M1 => ((0 : Int) ≤ x7 ∧ x7 < 8) ∧ bd (mset M1 4009 0 x7 v1) fun M2 => Tq 349 14 [vR 4 0, vR 13 x1, vI x2, vJ, vI x4, vJ, vJ, vI (w32 (x7 + 1))] [] M2 Q)) :=
  Tq_blk (is := bk_349_14) (dd := de_349) rfl rfl
/-- EarthOffice$State redo block at 275 -/
theorem t349_15 {x4 : Int} {M : Mem} {Q : AR → Mem → Prop} : Tq 349 15 [vR 4 0, vJ, vJ, vJ, vI x4, vJ, vJ, vJ] [] M Q ↔ (((0 : Int) ≤ x4 ∧ x4 < 24) ∧ Tq 361 0 [vR 6 0, vR 7 x4, vR 4009 0, vI (M 4 0 10)] [] M (kV fun M1 => Tq 349 20 [vJ, vJ, vJ, vJ, vJ, vJ, vJ, vJ] [] M1 Q)) :=
  Tq_blk (is := bk_349_15) (dd := de_349) rfl rfl
/-- EarthOffice$State redo block at 303 -/
theorem t349_16 {x4 x5 : Int} {M : Mem} {Q : AR → Mem → Prop} : Tq 349 16 [vR 4 0, vJ, vJ, vJ, vI x4, vI x5, vJ, vJ] [] M Q ↔ (Tq 363 0 [vR 6 0, vI x4, vI x5, vJ, vJ, vJ] [] M (kV fun M1 => Tq 349 20 [vJ, vJ, vJ, vJ, vJ, vJ, vJ, vJ] [] M1 Q)) :=
  Tq_blk (is := bk_349_16) (dd := de_349) rfl rfl
/-- EarthOffice$State redo block at 317 -/
theorem t349_17 {M : Mem} {Q : AR → Mem → Prop} : Tq 349 17 [vR 4 0, vJ, vJ, vJ, vJ, vJ, vJ, vJ] [] M Q ↔ (Tq 374 0 [vR 8 0] [] M (kV fun M1 => Tq 349 20 [vJ, vJ, vJ, vJ, vJ, vJ, vJ, vJ] [] M1 Q)) :=
  Tq_blk (is := bk_349_17) (dd := de_349) rfl rfl
/-- EarthOffice$State redo block at 327 -/
theorem t349_18 {x4 x5 : Int} {M : Mem} {Q : AR → Mem → Prop} : Tq 349 18 [vR 4 0, vJ, vJ, vJ, vI x4, vI x5, vJ, vJ] [] M Q ↔ (((0 : Int) ≤ x4 ∧ x4 < 4) ∧ bd (mset M 8001 0 x4 x5) fun M1 => Tq 349 20 [vJ, vJ, vJ, vJ, vJ, vJ, vJ, vJ] [] M1 Q) :=
  Tq_blk (is := bk_349_18) (dd := de_349) rfl rfl
/-- EarthOffice$State redo block at 342 -/
theorem t349_19 {x1 x2 x3 x4 x5 x6 : Int} {M : Mem} {Q : AR → Mem → Prop} : Tq 349 19 [vR 4 0, vR 13 x1, vI x2, vI x3, vI x4, vI x5, vI x6, vJ] [] M Q ↔ (Tq 351 0 [vR 4 0, vR 13 x1, vI x2, vI x3, vI x4, vI x5, vI x6, vJ] [] M (kV fun M1 => Tq 349 20 [vJ, vJ, vJ, vJ, vJ, vJ, vJ, vJ] [] M1 Q)) :=
  Tq_blk (is := bk_349_19) (dd := de_349) rfl rfl
/-- EarthOffice$State redo block at 355 -/
theorem t349_20 {M : Mem} {Q : AR → Mem → Prop} : Tq 349 20 [vJ, vJ, vJ, vJ, vJ, vJ, vJ, vJ] [] M Q ↔ (Q (.inl none) M) :=
  Tq_blk (is := bk_349_20) (dd := de_349) rfl rfl
/-- EarthOffice$State redoEvent block at 0 -/
theorem t350_0 {x1 x2 : Int} {M : Mem} {Q : AR → Mem → Prop} : Tq 350 0 [vR 4 0, vR 13 x1, vI x2, vJ, vJ, vJ, vJ] [] M Q ↔ (Tq 360 0 [vR 6 0, vJ] [] M (kR 7 fun v1 M1 => Tq 117 0 [vR 13 x1, vI (w32 (x2 + 20))] [] M1 (kI fun v2 M2 => Tq 350 1 [vR 4 0, vR 13 x1, vI x2, vR 7 v1, vI v2, vI 0, vJ] [] M2 Q))) :=
  Tq_blk (is := bk_350_0) (dd := de_350) rfl rfl
/-- EarthOffice$State redoEvent block at 21 -/
theorem t350_1 {x1 x2 x3 x4 x5 : Int} {M : Mem} {Q : AR → Mem → Prop} : Tq 350 1 [vR 4 0, vR 13 x1, vI x2, vR 7 x3, vI x4, vI x5, vJ] [] M Q ↔ (if x4 ≤ x5 then Tq 350 2 [vR 4 0, vR 13 x1, vI x2, vR 7 x3, vJ, vJ, vJ] [] M Q else Tq 117 0 [vR 13 x1, vI (w32 (w32 (x2 + 24) + w32 (20 * x5)))] [] M (kI fun v1 M1 => Tq 117 0 [vR 13 x1, vI (w32 (w32 (w32 (x2 + 24) + w32 (20 * x5)) + 4))] [] M1 (kI fun v2 M2 => Tq 117 0 [vR 13 x1, vI (w32 (w32 (w32 (x2 + 24) + w32 (20 * x5)) + 8))] [] M2 (kI fun v3 M3 => Tq 117 0 [vR 13 x1, vI (w32 (w32 (w32 (x2 + 24) + w32 (20 * x5)) + 12))] [] M3 (kI fun v4 M4 => Tq 117 0 [vR 13 x1, vI (w32 (w32 (w32 (x2 + 24) + w32 (20 * x5)) + 16))] [] M4 (kI fun v5 M5 => Tq 368 0 [vR 7 x3, vI v1, vI v2, vI v3, vI v4, vI v5, vJ] [] M5 (kV fun M6 => Tq 350 1 [vR 4 0, vR 13 x1, vI x2, vR 7 x3, vI x4, vI (w32 (x5 + 1)), vJ] [] M6 Q))))))) :=
  Tq_blk (is := bk_350_1) (dd := de_350) rfl rfl
/-- EarthOffice$State redoEvent block at 91 -/
theorem t350_2 {x1 x2 x3 : Int} {M : Mem} {Q : AR → Mem → Prop} : Tq 350 2 [vR 4 0, vR 13 x1, vI x2, vR 7 x3, vJ, vJ, vJ] [] M Q ↔ (((0 : Int) ≤ 0 ∧ (0 : Int) < 8) ∧ bd (mset M 4009 0 0 0) fun M1 => Tq 350 3 [vR 4 0, vR 13 x1, vI x2, vR 7 x3, vJ, vI 0, vJ] [] M1 Q) :=
  Tq_blk (is := bk_350_2) (dd := de_350) rfl rfl
/-- EarthOffice$State redoEvent block at 101 -/
theorem t350_3 {x1 x2 x3 x5 : Int} {M : Mem} {Q : AR → Mem → Prop} : Tq 350 3 [vR 4 0, vR 13 x1, vI x2, vR 7 x3, vJ, vI x5, vJ] [] M Q ↔ (if (5 : Int) ≤ x5 then Tq 350 4 [vR 4 0, vJ, vJ, vR 7 x3, vJ, vJ, vJ] [] M Q else Tq 117 0 [vR 13 x1, vI (w32 (x2 + w32 (4 * x5)))] [] M (kI fun v1 M1 => ((0 : Int) ≤ w32 (1 + x5) ∧ w32 (1 + x5) < 8) ∧ bd (mset M1 4009 0 (w32 (1 + x5)) v1) fun M2 => Tq 350 3 [vR 4 0, vR 13 x1, vI x2, vR 7 x3, vJ, vI (w32 (x5 + 1)), vJ] [] M2 Q)) :=
  Tq_blk (is := bk_350_3) (dd := de_350) rfl rfl
/-- EarthOffice$State redoEvent block at 132 -/
theorem t350_4 {x3 : Int} {M : Mem} {Q : AR → Mem → Prop} : Tq 350 4 [vR 4 0, vJ, vJ, vR 7 x3, vJ, vJ, vJ] [] M Q ↔ (((0 : Int) ≤ 6 ∧ (6 : Int) < 8) ∧ bd (mset M 4009 0 6 (-99999999)) fun M1 => Tq 361 0 [vR 6 0, vR 7 x3, vR 4009 0, vI (M1 4 0 10)] [] M1 (kV fun M2 => Q (.inl none) M2)) :=
  Tq_blk (is := bk_350_4) (dd := de_350) rfl rfl
/-- EarthOffice$State redoMore block at 0 -/
theorem t351_0 {x1 x2 x3 x4 x5 x6 : Int} {M : Mem} {Q : AR → Mem → Prop} : Tq 351 0 [vR 4 0, vR 13 x1, vI x2, vI x3, vI x4, vI x5, vI x6, vJ] [] M Q ↔ (Tq 114 0 [vR 13 x1, vI x2] [] M (kI fun v1 M1 => if v1 = 67 then Tq 351 1 [vR 4 0, vR 13 x1, vI x2, vJ, vI x4, vI x5, vI x6, vJ] [] M1 Q else if v1 = 70 then Tq 351 9 [vR 4 0, vJ, vJ, vJ, vI x4, vI x5, vJ, vJ] [] M1 Q else if v1 = 73 then Tq 351 15 [vR 4 0, vJ, vJ, vJ, vI x4, vJ, vJ, vJ] [] M1 Q else if v1 = 76 then Tq 351 2 [vR 4 0, vJ, vJ, vJ, vI x4, vI x5, vI x6, vJ] [] M1 Q else if v1 = 84 then Tq 351 3 [vR 4 0, vR 13 x1, vI x2, vI x3, vJ, vJ, vJ, vJ] [] M1 Q else if v1 = 85 then Tq 351 6 [vR 4 0, vR 13 x1, vI x2, vJ, vI x4, vI x5, vI x6, vJ] [] M1 Q else if v1 = 88 then Tq 351 12 [vR 4 0, vJ, vJ, vJ, vI x4, vJ, vJ, vJ] [] M1 Q else Tq 351 18 [vR 4 0, vJ, vJ, vJ, vI x4, vJ, vJ, vJ] [] M1 Q)) :=
  Tq_blk (is := bk_351_0) (dd := de_351) rfl rfl
/-- EarthOffice$State redoMore block at 108 -/
theorem t351_1 {x1 x2 x4 x5 x6 : Int} {M : Mem} {Q : AR → Mem → Prop} : Tq 351 1 [vR 4 0, vR 13 x1, vI x2, vJ, vI x4, vI x5, vI x6, vJ] [] M Q ↔ (Tq 117 0 [vR 13 x1, vI (w32 (x2 + 13))] [] M (kI fun v1 M1 => Tq 376 0 [vR 8 0, vI x4, vI x5, vI x6, vI v1, vJ] [] M1 (kV fun M2 => Tq 351 19 [vJ, vJ, vJ, vJ, vJ, vJ, vJ, vJ] [] M2 Q))) :=
  Tq_blk (is := bk_351_1) (dd := de_351) rfl rfl
/-- EarthOffice$State redoMore block at 132 -/
theorem t351_2 {x4 x5 x6 : Int} {M : Mem} {Q : AR → Mem → Prop} : Tq 351 2 [vR 4 0, vJ, vJ, vJ, vI x4, vI x5, vI x6, vJ] [] M Q ↔ (Tq 377 0 [vR 8 0, vI x4, vI x5, vI x6, vI (M 4 0 10)] [] M (kV fun M1 => Tq 351 19 [vJ, vJ, vJ, vJ, vJ, vJ, vJ, vJ] [] M1 Q)) :=
  Tq_blk (is := bk_351_2) (dd := de_351) rfl rfl
/-- EarthOffice$State redoMore block at 152 -/
theorem t351_3 {x1 x2 x3 : Int} {M : Mem} {Q : AR → Mem → Prop} : Tq 351 3 [vR 4 0, vR 13 x1, vI x2, vI x3, vJ, vJ, vJ, vJ] [] M Q ↔ (bd (mset M 13 2 1 0) fun M1 => Tq 351 4 [vR 4 0, vR 13 x1, vI x2, vI x3, vJ, vJ, vJ, vI 1] [] M1 Q) :=
  Tq_blk (is := bk_351_3) (dd := de_351) rfl rfl
/-- EarthOffice$State redoMore block at 163 -/
theorem t351_4 {x1 x2 x3 x7 : Int} {M : Mem} {Q : AR → Mem → Prop} : Tq 351 4 [vR 4 0, vR 13 x1, vI x2, vI x3, vJ, vJ, vJ, vI x7] [] M Q ↔ (if x3 ≤ x7 then Tq 351 5 [vR 4 0, vJ, vJ, vJ, vJ, vJ, vJ, vJ] [] M Q else Tq 114 0 [vR 13 x1, vI (w32 (x2 + x7))] [] M (kI fun v1 M1 => Tq 113 0 [vR 13 2, vI v1] [] M1 (kV fun M2 => Tq 351 4 [vR 4 0, vR 13 x1, vI x2, vI x3, vJ, vJ, vJ, vI (w32 (x7 + 1))] [] M2 Q))) :=
  Tq_blk (is := bk_351_4) (dd := de_351) rfl rfl
/-- EarthOffice$State redoMore block at 190 -/
theorem t351_5 {M : Mem} {Q : AR → Mem → Prop} : Tq 351 5 [vR 4 0, vJ, vJ, vJ, vJ, vJ, vJ, vJ] [] M Q ↔ (Tq 394 0 [vR 10 0, vR 13 2, vJ] [] M (kI fun v1 M1 => Tq 341 0 [vR 4 0] [] M1 (kV fun M2 => Tq 351 19 [vJ, vJ, vJ, vJ, vJ, vJ, vJ, vJ] [] M2 Q))) :=
  Tq_blk (is := bk_351_5) (dd := de_351) rfl rfl
/-- EarthOffice$State redoMore block at 209 -/
theorem t351_6 {x1 x2 x4 x5 x6 : Int} {M : Mem} {Q : AR → Mem → Prop} : Tq 351 6 [vR 4 0, vR 13 x1, vI x2, vJ, vI x4, vI x5, vI x6, vJ] [] M Q ↔ (Tq 117 0 [vR 13 x1, vI (w32 (x2 + 13))] [] M (kI fun v1 M1 => Tq 117 0 [vR 13 x1, vI (w32 (x2 + 17))] [] M1 (kI fun v2 M2 => if ¬ v2 = (1 : Int) then Tq 351 7 [vJ, vJ, vJ, vJ, vJ, vJ, vJ, vJ] [vI v1, vI x6, vI x5, vI x4, vR 9 0] M2 Q else Tq 351 8 [vJ, vJ, vJ, vJ, vJ, vJ, vJ, vJ] [vI 1, vI v1, vI x6, vI x5, vI x4, vR 9 0] M2 Q))) :=
  Tq_blk (is := bk_351_6) (dd := de_351) rfl rfl
/-- EarthOffice$State redoMore block at 243 -/
theorem t351_7 {s0 s1 s2 s3 : Int} {M : Mem} {Q : AR → Mem → Prop} : Tq 351 7 [vJ, vJ, vJ, vJ, vJ, vJ, vJ, vJ] [vI s0, vI s1, vI s2, vI s3, vR 9 0] M Q ↔ (Tq 351 8 [vJ, vJ, vJ, vJ, vJ, vJ, vJ, vJ] [vI 0, vI s0, vI s1, vI s2, vI s3, vR 9 0] M Q) :=
  Tq_blk (is := bk_351_7) (dd := de_351) rfl rfl
/-- EarthOffice$State redoMore block at 244 -/
theorem t351_8 {s0 s1 s2 s3 s4 : Int} {M : Mem} {Q : AR → Mem → Prop} : Tq 351 8 [vJ, vJ, vJ, vJ, vJ, vJ, vJ, vJ] [vI s0, vI s1, vI s2, vI s3, vI s4, vR 9 0] M Q ↔ (Tq 384 0 [vR 9 0, vI s4, vI s3, vI s2, vI s1, vI s0] [] M (kV fun M1 => Tq 351 19 [vJ, vJ, vJ, vJ, vJ, vJ, vJ, vJ] [] M1 Q)) :=
  Tq_blk (is := bk_351_8) (dd := de_351) rfl rfl
/-- EarthOffice$State redoMore block at 250 -/
theorem t351_9 {x4 x5 : Int} {M : Mem} {Q : AR → Mem → Prop} : Tq 351 9 [vR 4 0, vJ, vJ, vJ, vI x4, vI x5, vJ, vJ] [] M Q ↔ (if ¬ x5 = (1 : Int) then Tq 351 10 [vJ, vJ, vJ, vJ, vJ, vJ, vJ, vJ] [vI x4, vR 9003 0] M Q else Tq 351 11 [vJ, vJ, vJ, vJ, vJ, vJ, vJ, vJ] [vI 1, vI x4, vR 9003 0] M Q) :=
  Tq_blk (is := bk_351_9) (dd := de_351) rfl rfl
/-- EarthOffice$State redoMore block at 269 -/
theorem t351_10 {s0 : Int} {M : Mem} {Q : AR → Mem → Prop} : Tq 351 10 [vJ, vJ, vJ, vJ, vJ, vJ, vJ, vJ] [vI s0, vR 9003 0] M Q ↔ (Tq 351 11 [vJ, vJ, vJ, vJ, vJ, vJ, vJ, vJ] [vI 0, vI s0, vR 9003 0] M Q) :=
  Tq_blk (is := bk_351_10) (dd := de_351) rfl rfl
/-- EarthOffice$State redoMore block at 270 -/
theorem t351_11 {s0 s1 : Int} {M : Mem} {Q : AR → Mem → Prop} : Tq 351 11 [vJ, vJ, vJ, vJ, vJ, vJ, vJ, vJ] [vI s0, vI s1, vR 9003 0] M Q ↔ (((0 : Int) ≤ s1 ∧ s1 < 8) ∧ bd (mset M 9003 0 s1 (nb s0)) fun M1 => Tq 351 19 [vJ, vJ, vJ, vJ, vJ, vJ, vJ, vJ] [] M1 Q) :=
  Tq_blk (is := bk_351_11) (dd := de_351) rfl rfl
/-- EarthOffice$State redoMore block at 274 -/
theorem t351_12 {x4 : Int} {M : Mem} {Q : AR → Mem → Prop} : Tq 351 12 [vR 4 0, vJ, vJ, vJ, vI x4, vJ, vJ, vJ] [] M Q ↔ (if ¬ x4 = (1 : Int) then Tq 351 13 [vJ, vJ, vJ, vJ, vJ, vJ, vJ, vJ] [vR 9 0] M Q else Tq 351 14 [vJ, vJ, vJ, vJ, vJ, vJ, vJ, vJ] [vI 1, vR 9 0] M Q) :=
  Tq_blk (is := bk_351_12) (dd := de_351) rfl rfl
/-- EarthOffice$State redoMore block at 288 -/
theorem t351_13 {M : Mem} {Q : AR → Mem → Prop} : Tq 351 13 [vJ, vJ, vJ, vJ, vJ, vJ, vJ, vJ] [vR 9 0] M Q ↔ (Tq 351 14 [vJ, vJ, vJ, vJ, vJ, vJ, vJ, vJ] [vI 0, vR 9 0] M Q) :=
  Tq_blk (is := bk_351_13) (dd := de_351) rfl rfl
/-- EarthOffice$State redoMore block at 289 -/
theorem t351_14 {s0 : Int} {M : Mem} {Q : AR → Mem → Prop} : Tq 351 14 [vJ, vJ, vJ, vJ, vJ, vJ, vJ, vJ] [vI s0, vR 9 0] M Q ↔ ((s0 = 0 ∨ s0 = 1) ∧ bd (mset M 9 0 5 s0) fun M1 => Tq 351 19 [vJ, vJ, vJ, vJ, vJ, vJ, vJ, vJ] [] M1 Q) :=
  Tq_blk (is := bk_351_14) (dd := de_351) rfl rfl
/-- EarthOffice$State redoMore block at 295 -/
theorem t351_15 {x4 : Int} {M : Mem} {Q : AR → Mem → Prop} : Tq 351 15 [vR 4 0, vJ, vJ, vJ, vI x4, vJ, vJ, vJ] [] M Q ↔ (Tq 351 16 [vR 4 0, vJ, vJ, vJ, vI x4, vJ, vJ, vI 0] [] M Q) :=
  Tq_blk (is := bk_351_15) (dd := de_351) rfl rfl
/-- EarthOffice$State redoMore block at 298 -/
theorem t351_16 {x4 x7 : Int} {M : Mem} {Q : AR → Mem → Prop} : Tq 351 16 [vR 4 0, vJ, vJ, vJ, vI x4, vJ, vJ, vI x7] [] M Q ↔ (if x4 ≤ x7 then Tq 351 17 [vJ, vJ, vJ, vJ, vJ, vJ, vJ, vJ] [] M Q else Tq 342 0 [vR 4 0, vJ, vJ, vJ] [] M (kV fun M1 => Tq 351 16 [vR 4 0, vJ, vJ, vJ, vI x4, vJ, vJ, vI (w32 (x7 + 1))] [] M1 Q)) :=
  Tq_blk (is := bk_351_16) (dd := de_351) rfl rfl
/-- EarthOffice$State redoMore block at 315 -/
theorem t351_17 {M : Mem} {Q : AR → Mem → Prop} : Tq 351 17 [vJ, vJ, vJ, vJ, vJ, vJ, vJ, vJ] [] M Q ↔ (Tq 351 19 [vJ, vJ, vJ, vJ, vJ, vJ, vJ, vJ] [] M Q) :=
  Tq_blk (is := bk_351_17) (dd := de_351) rfl rfl
/-- EarthOffice$State redoMore block at 318 -/
theorem t351_18 {x4 : Int} {M : Mem} {Q : AR → Mem → Prop} : Tq 351 18 [vR 4 0, vJ, vJ, vJ, vI x4, vJ, vJ, vJ] [] M Q ↔ (((0 : Int) ≤ x4 ∧ x4 < 200) ∧ bd (mset M 9013 0 x4 1) fun M1 => Tq 351 19 [vJ, vJ, vJ, vJ, vJ, vJ, vJ, vJ] [] M1 Q) :=
  Tq_blk (is := bk_351_18) (dd := de_351) rfl rfl
/-- EarthOffice$State redoMore block at 329 -/
theorem t351_19 {M : Mem} {Q : AR → Mem → Prop} : Tq 351 19 [vJ, vJ, vJ, vJ, vJ, vJ, vJ, vJ] [] M Q ↔ (Q (.inl none) M) :=
  Tq_blk (is := bk_351_19) (dd := de_351) rfl rfl
/-- EarthOffice$Net add block at 0 -/
theorem t352_0 {x1 x2 : Int} {M : Mem} {Q : AR → Mem → Prop} : Tq 352 0 [vR 5 0, vI x1, vI x2] [] M Q ↔ (((0 : Int) ≤ M 5 0 0 ∧ M 5 0 0 < 12) ∧ bd (mset M 5001 0 (M 5 0 0) x1) fun M1 => ((0 : Int) ≤ M1 5 0 0 ∧ M1 5 0 0 < 12) ∧ bd (mset M1 5002 0 (M1 5 0 0) x2) fun M2 => bd (mset M2 5 0 0 (w32 (M2 5 0 0 + 1))) fun M3 => Q (.inl none) M3) :=
  Tq_blk (is := bk_352_0) (dd := de_352) rfl rfl
/-- EarthOffice$Net has block at 0 -/
theorem t353_0 {x1 : Int} {M : Mem} {Q : AR → Mem → Prop} : Tq 353 0 [vR 5 0, vI x1] [] M Q ↔ (Tq 25 0 [vI x1, vI 0, vI (w32 (M 5 0 0 - 1))] [] M (kI fun v1 M1 => Q (.inl (some (vI (nb v1)))) M1)) :=
  Tq_blk (is := bk_353_0) (dd := de_353) rfl rfl
/-- EarthOffice$Net areKnown block at 0 -/
theorem t354_0 {x1 x2 x3 : Int} {M : Mem} {Q : AR → Mem → Prop} : Tq 354 0 [vR 5 0, vI x1, vI x2, vI x3, vJ, vJ] [] M Q ↔ (Tq 354 1 [vR 5 0, vI x1, vI x2, vI x3, vI 1, vI x2] [] M Q) :=
  Tq_blk (is := bk_354_0) (dd := de_354) rfl rfl
/-- EarthOffice$Net areKnown block at 6 -/
theorem t354_1 {x1 x2 x3 x4 x5 : Int} {M : Mem} {Q : AR → Mem → Prop} : Tq 354 1 [vR 5 0, vI x1, vI x2, vI x3, vI x4, vI x5] [] M Q ↔ (if w32 (x2 + x3) ≤ x5 then Tq 354 2 [vJ, vJ, vJ, vJ, vI x4, vJ] [] M Q else Tq 355 0 [vR 5 0, vI x1, vI x5] [] M (kI fun v1 M1 => Tq 354 1 [vR 5 0, vI x1, vI x2, vI x3, vI (and32 x4 v1), vI (w32 (x5 + 1))] [] M1 Q)) :=
  Tq_blk (is := bk_354_1) (dd := de_354) rfl rfl
/-- EarthOffice$Net areKnown block at 32 -/
theorem t354_2 {x4 : Int} {M : Mem} {Q : AR → Mem → Prop} : Tq 354 2 [vJ, vJ, vJ, vJ, vI x4, vJ] [] M Q ↔ (Q (.inl (some (vI (nb x4)))) M) :=
  Tq_blk (is := bk_354_2) (dd := de_354) rfl rfl
/-- EarthOffice$Net isKnown block at 0 -/
theorem t355_0 {x1 x2 : Int} {M : Mem} {Q : AR → Mem → Prop} : Tq 355 0 [vR 5 0, vI x1, vI x2] [] M Q ↔ (((0 : Int) ≤ w32 (w32 (x1 * 4096) + x2) ∧ w32 (w32 (x1 * 4096) + x2) < 49152) ∧ Q (.inl (some (vI (nb (M 5004 0 (w32 (w32 (x1 * 4096) + x2))))))) M) :=
  Tq_blk (is := bk_355_0) (dd := de_355) rfl rfl
/-- EarthOffice$Net take block at 0 -/
theorem t356_0 {x1 x2 x3 : Int} {M : Mem} {Q : AR → Mem → Prop} : Tq 356 0 [vR 5 0, vI x1, vI x2, vI x3, vJ] [] M Q ↔ (((0 : Int) ≤ w32 (w32 (x1 * 4096) + x2) ∧ w32 (w32 (x1 * 4096) + x2) < 49152) ∧ if M 5004 0 (w32 (w32 (x1 * 4096) + x2)) = 0 then Tq 356 3 [vR 5 0, vJ, vJ, vI x3, vI (w32 (w32 (x1 * 4096) + x2))] [] M Q else ((0 : Int) ≤ w32 (w32 (x1 * 4096) + x2) ∧ w32 (w32 (x1 * 4096) + x2) < 49152) ∧ if ¬ M 5003 0 (w32 (w32 (x1 * 4096) + x2)) = x3 then Tq 356 1 [vJ, vJ, vJ, vJ, vJ] [] M Q else Tq 356 2 [vJ, vJ, vJ, vJ, vJ] [vI 1] M Q) :=
  Tq_blk (is := bk_356_0) (dd := de_356) rfl rfl
/-- EarthOffice$Net take block at 34 -/
theorem t356_1 {M : Mem} {Q : AR → Mem → Prop} : Tq 356 1 [vJ, vJ, vJ, vJ, vJ] [] M Q ↔ (Tq 356 2 [vJ, vJ, vJ, vJ, vJ] [vI 2] M Q) :=
  Tq_blk (is := bk_356_1) (dd := de_356) rfl rfl
/-- EarthOffice$Net take block at 35 -/
theorem t356_2 {s0 : Int} {M : Mem} {Q : AR → Mem → Prop} : Tq 356 2 [vJ, vJ, vJ, vJ, vJ] [vI s0] M Q ↔ (Q (.inl (some (vI s0))) M) :=
  Tq_blk (is := bk_356_2) (dd := de_356) rfl rfl
/-- EarthOffice$Net take block at 36 -/
theorem t356_3 {x3 x4 : Int} {M : Mem} {Q : AR → Mem → Prop} : Tq 356 3 [vR 5 0, vJ, vJ, vI x3, vI x4] [] M Q ↔ (((0 : Int) ≤ x4 ∧ x4 < 49152) ∧ bd (mset M 5004 0 x4 (nb 1)) fun M1 => ((0 : Int) ≤ x4 ∧ x4 < 49152) ∧ bd (mset M1 5003 0 x4 x3) fun M2 => Q (.inl (some (vI 0))) M2) :=
  Tq_blk (is := bk_356_3) (dd := de_356) rfl rfl
/-- EarthOffice$Net gap block at 0 -/
theorem t357_0 {x1 x2 x3 : Int} {M : Mem} {Q : AR → Mem → Prop} : Tq 357 0 [vR 5 0, vI x1, vI x2, vI x3, vJ, vJ, vJ] [] M Q ↔ (Tq 357 1 [vR 5 0, vI x1, vJ, vI x3, vI x2, vI (-99999999), vI 0] [] M Q) :=
  Tq_blk (is := bk_357_0) (dd := de_357) rfl rfl
/-- EarthOffice$Net gap block at 10 -/
theorem t357_1 {x1 x3 x4 x5 x6 : Int} {M : Mem} {Q : AR → Mem → Prop} : Tq 357 1 [vR 5 0, vI x1, vJ, vI x3, vI x4, vI x5, vI x6] [] M Q ↔ (if (4096 : Int) ≤ x6 then Tq 357 7 [vJ, vJ, vJ, vJ, vJ, vJ, vJ] [] M Q else if x4 < 0 then Tq 357 7 [vJ, vJ, vJ, vJ, vJ, vJ, vJ] [] M Q else Tq 355 0 [vR 5 0, vI x1, vI x6] [] M (kI fun v1 M1 => if v1 = 0 then Tq 357 6 [vR 5 0, vI x1, vJ, vI x3, vI x4, vI x5, vI x6] [] M1 Q else if x5 = (-99999999) then Tq 357 5 [vR 5 0, vI x1, vJ, vI x3, vI x4, vJ, vI x6] [] M1 Q else if x6 ≤ x5 then Tq 357 5 [vR 5 0, vI x1, vJ, vI x3, vI x4, vJ, vI x6] [] M1 Q else if ¬ x4 = 0 then Tq 357 4 [vR 5 0, vI x1, vJ, vI x3, vI x4, vJ, vI x6] [] M1 Q else if ¬ x3 = 0 then Tq 357 2 [vJ, vJ, vJ, vJ, vJ, vI x5, vI x6] [] M1 Q else Tq 357 3 [vJ, vJ, vJ, vJ, vJ, vJ, vJ] [vI x5] M1 Q)) :=
  Tq_blk (is := bk_357_1) (dd := de_357) rfl rfl
/-- EarthOffice$Net gap block at 61 -/
theorem t357_2 {x5 x6 : Int} {M : Mem} {Q : AR → Mem → Prop} : Tq 357 2 [vJ, vJ, vJ, vJ, vJ, vI x5, vI x6] [] M Q ↔ (Tq 357 3 [vJ, vJ, vJ, vJ, vJ, vJ, vJ] [vI (w32 (x6 - x5))] M Q) :=
  Tq_blk (is := bk_357_2) (dd := de_357) rfl rfl
/-- EarthOffice$Net gap block at 66 -/
theorem t357_3 {s0 : Int} {M : Mem} {Q : AR → Mem → Prop} : Tq 357 3 [vJ, vJ, vJ, vJ, vJ, vJ, vJ] [vI s0] M Q ↔ (Q (.inl (some (vI s0))) M) :=
  Tq_blk (is := bk_357_3) (dd := de_357) rfl rfl
/-- EarthOffice$Net gap block at 67 -/
theorem t357_4 {x1 x3 x4 x6 : Int} {M : Mem} {Q : AR → Mem → Prop} : Tq 357 4 [vR 5 0, vI x1, vJ, vI x3, vI x4, vJ, vI x6] [] M Q ↔ (Tq 357 5 [vR 5 0, vI x1, vJ, vI x3, vI (w32 (x4 + (-1))), vJ, vI x6] [] M Q) :=
  Tq_blk (is := bk_357_4) (dd := de_357) rfl rfl
/-- EarthOffice$Net gap block at 70 -/
theorem t357_5 {x1 x3 x4 x6 : Int} {M : Mem} {Q : AR → Mem → Prop} : Tq 357 5 [vR 5 0, vI x1, vJ, vI x3, vI x4, vJ, vI x6] [] M Q ↔ (Tq 357 6 [vR 5 0, vI x1, vJ, vI x3, vI x4, vI (w32 (x6 + 1)), vI x6] [] M Q) :=
  Tq_blk (is := bk_357_5) (dd := de_357) rfl rfl
/-- EarthOffice$Net gap block at 76 -/
theorem t357_6 {x1 x3 x4 x5 x6 : Int} {M : Mem} {Q : AR → Mem → Prop} : Tq 357 6 [vR 5 0, vI x1, vJ, vI x3, vI x4, vI x5, vI x6] [] M Q ↔ (Tq 357 1 [vR 5 0, vI x1, vJ, vI x3, vI x4, vI x5, vI (w32 (x6 + 1))] [] M Q) :=
  Tq_blk (is := bk_357_6) (dd := de_357) rfl rfl
/-- EarthOffice$Net gap block at 82 -/
theorem t357_7 {M : Mem} {Q : AR → Mem → Prop} : Tq 357 7 [vJ, vJ, vJ, vJ, vJ, vJ, vJ] [] M Q ↔ (Q (.inl (some (vI (-99999999)))) M) :=
  Tq_blk (is := bk_357_7) (dd := de_357) rfl rfl
/-- EarthOffice$Net quality block at 0 -/
theorem t358_0 {x1 x2 : Int} {M : Mem} {Q : AR → Mem → Prop} : Tq 358 0 [vR 5 0, vI x1, vI x2, vJ, vJ, vJ, vJ, vJ, vJ] [] M Q ↔ (Tq 358 1 [vR 5 0, vI x1, vI x2, vI 0, vI 0, vI 0, vL 0, vJ, vI (w32 (x1 * 4096))] [] M Q) :=
  Tq_blk (is := bk_358_0) (dd := de_358) rfl rfl
/-- EarthOffice$Net quality block at 18 -/
theorem t358_1_c12 {x1 x2 x3 x4 x5 x6 x8 : Int} {M : Mem} {Q : AR → Mem → Prop} : Bq 358 de_358 (List.drop 12 bk_358_1) [vR 5 0, vI x1, vI x2, vI x3, vI x4, vI x5, vL x6, vJ, vI x8] [] M Q ↔ (if ¬ x3 = 0 then Tq 358 2 [vR 5 0, vI x1, vI x2, vI x3, vI x4, vI x5, vL x6, vJ, vI x8] [] M Q else ((0 : Int) ≤ x8 ∧ x8 < 49152) ∧ Tq 358 3 [vR 5 0, vI x1, vI x2, vI x3, vJ, vI x5, vL x6, vJ, vI x8] [vI (M 5003 0 x8)] M Q) :=
  Iff.rfl
theorem t358_1_c6 {x1 x2 x3 x4 x5 x6 x8 s0 s1 : Int} {M : Mem} {Q : AR → Mem → Prop} : Bq 358 de_358 (List.drop 6 bk_358_1) [vR 5 0, vI x1, vI x2, vI x3, vI x4, vI x5, vL x6, vJ, vI x8] [vI s0, vI s1] M Q ↔ (if s0 ≤ s1 then Tq 358 7 [vJ, vJ, vI x2, vI x3, vI x4, vI x5, vL x6, vJ, vJ] [] M Q else ((0 : Int) ≤ x8 ∧ x8 < 49152) ∧ if M 5004 0 x8 = 0 then Tq 358 6 [vR 5 0, vI x1, vI x2, vI x3, vI x4, vI x5, vL x6, vJ, vI x8] [] M Q else if ¬ x3 = 0 then Tq 358 2 [vR 5 0, vI x1, vI x2, vI x3, vI x4, vI x5, vL x6, vJ, vI x8] [] M Q else ((0 : Int) ≤ x8 ∧ x8 < 49152) ∧ Tq 358 3 [vR 5 0, vI x1, vI x2, vI x3, vJ, vI x5, vL x6, vJ, vI x8] [vI (M 5003 0 x8)] M Q) :=
  (show Bq 358 de_358 (List.drop 6 bk_358_1) [vR 5 0, vI x1, vI x2, vI x3, vI x4, vI x5, vL x6, vJ, vI x8] [vI s0, vI s1] M Q ↔ (if s0 ≤ s1 then Tq 358 7 [vJ, vJ, vI x2, vI x3, vI x4, vI x5, vL x6, vJ, vJ] [] M Q else ((0 : Int) ≤ x8 ∧ x8 < 49152) ∧ if M 5004 0 x8 = 0 then Tq 358 6 [vR 5 0, vI x1, vI x2, vI x3, vI x4, vI x5, vL x6, vJ, vI x8] [] M Q else Bq 358 de_358 (List.drop 12 bk_358_1) [vR 5 0, vI x1, vI x2, vI x3, vI x4, vI x5, vL x6, vJ, vI x8] [] M Q) from Iff.rfl).trans (by simp only [t358_1_c12])
theorem t358_1 {x1 x2 x3 x4 x5 x6 x8 : Int} {M : Mem} {Q : AR → Mem → Prop} : Tq 358 1 [vR 5 0, vI x1, vI x2, vI x3, vI x4, vI x5, vL x6, vJ, vI x8] [] M Q ↔ (if w32 (w32 (x1 * 4096) + 4096) ≤ x8 then Tq 358 7 [vJ, vJ, vI x2, vI x3, vI x4, vI x5, vL x6, vJ, vJ] [] M Q else ((0 : Int) ≤ x8 ∧ x8 < 49152) ∧ if M 5004 0 x8 = 0 then Tq 358 6 [vR 5 0, vI x1, vI x2, vI x3, vI x4, vI x5, vL x6, vJ, vI x8] [] M Q else if ¬ x3 = 0 then Tq 358 2 [vR 5 0, vI x1, vI x2, vI x3, vI x4, vI x5, vL x6, vJ, vI x8] [] M Q else ((0 : Int) ≤ x8 ∧ x8 < 49152) ∧ Tq 358 3 [vR 5 0, vI x1, vI x2, vI x3, vJ, vI x5, vL x6, vJ, vI x8] [vI (M 5003 0 x8)] M Q) :=
  (show Tq 358 1 [vR 5 0, vI x1, vI x2, vI x3, vI x4, vI x5, vL x6, vJ, vI x8] [] M Q ↔ (Bq 358 de_358 (List.drop 6 bk_358_1) [vR 5 0, vI x1, vI x2, vI x3, vI x4, vI x5, vL x6, vJ, vI x8] [vI (w32 (w32 (x1 * 4096) + 4096)), vI x8] M Q) from Tq_blk (is := bk_358_1) (dd := de_358) rfl rfl).trans (by simp only [t358_1_c6])
/-- EarthOffice$Net quality block at 56 -/
theorem t358_2 {x1 x2 x3 x4 x5 x6 x8 : Int} {M : Mem} {Q : AR → Mem → Prop} : Tq 358 2 [vR 5 0, vI x1, vI x2, vI x3, vI x4, vI x5, vL x6, vJ, vI x8] [] M Q ↔ (((0 : Int) ≤ x8 ∧ x8 < 49152) ∧ Tq 8 0 [vI x4, vI (M 5003 0 x8)] [] M (kI fun v1 M1 => Tq 358 3 [vR 5 0, vI x1, vI x2, vI x3, vJ, vI x5, vL x6, vJ, vI x8] [vI v1] M1 Q)) :=
  Tq_blk (is := bk_358_2) (dd := de_358) rfl rfl
/-- EarthOffice$Net quality block at 68 -/
theorem t358_3 {x1 x2 x3 x5 x6 x8 s0 : Int} {M : Mem} {Q : AR → Mem → Prop} : Tq 358 3 [vR 5 0, vI x1, vI x2, vI x3, vJ, vI x5, vL x6, vJ, vI x8] [vI s0] M Q ↔ (if ¬ x3 = 0 then Tq 358 4 [vR 5 0, vI x1, vI x2, vI x3, vI s0, vI x5, vL x6, vJ, vI x8] [] M Q else ((0 : Int) ≤ x8 ∧ x8 < 49152) ∧ Tq 358 5 [vR 5 0, vI x1, vI x2, vI x3, vI s0, vJ, vL x6, vJ, vI x8] [vI (M 5003 0 x8)] M Q) :=
  Tq_blk (is := bk_358_3) (dd := de_358) rfl rfl
/-- EarthOffice$Net quality block at 84 -/
theorem t358_4 {x1 x2 x3 x4 x5 x6 x8 : Int} {M : Mem} {Q : AR → Mem → Prop} : Tq 358 4 [vR 5 0, vI x1, vI x2, vI x3, vI x4, vI x5, vL x6, vJ, vI x8] [] M Q ↔ (((0 : Int) ≤ x8 ∧ x8 < 49152) ∧ Tq 9 0 [vI x5, vI (M 5003 0 x8)] [] M (kI fun v1 M1 => Tq 358 5 [vR 5 0, vI x1, vI x2, vI x3, vI x4, vJ, vL x6, vJ, vI x8] [vI v1] M1 Q)) :=
  Tq_blk (is := bk_358_4) (dd := de_358) rfl rfl
/-- EarthOffice$Net quality block at 96 -/
theorem t358_5 {x1 x2 x3 x4 x6 x8 s0 : Int} {M : Mem} {Q : AR → Mem → Prop} : Tq 358 5 [vR 5 0, vI x1, vI x2, vI x3, vI x4, vJ, vL x6, vJ, vI x8] [vI s0] M Q ↔ (((0 : Int) ≤ x8 ∧ x8 < 49152) ∧ Tq 358 6 [vR 5 0, vI x1, vI x2, vI (w32 (x3 + 1)), vI x4, vI s0, vL (w64 (x6 + M 5003 0 x8)), vJ, vI x8] [] M Q) :=
  Tq_blk (is := bk_358_5) (dd := de_358) rfl rfl
/-- EarthOffice$Net quality block at 114 -/
theorem t358_6 {x1 x2 x3 x4 x5 x6 x8 : Int} {M : Mem} {Q : AR → Mem → Prop} : Tq 358 6 [vR 5 0, vI x1, vI x2, vI x3, vI x4, vI x5, vL x6, vJ, vI x8] [] M Q ↔ (Tq 358 1 [vR 5 0, vI x1, vI x2, vI x3, vI x4, vI x5, vL x6, vJ, vI (w32 (x8 + 1))] [] M Q) :=
  Tq_blk (is := bk_358_6) (dd := de_358) rfl rfl
/-- EarthOffice$Net quality block at 120 -/
theorem t358_7 {x2 x3 x4 x5 x6 : Int} {M : Mem} {Q : AR → Mem → Prop} : Tq 358 7 [vJ, vJ, vI x2, vI x3, vI x4, vI x5, vL x6, vJ, vJ] [] M Q ↔ (if ¬ x2 = (2 : Int) then Tq 358 8 [vJ, vJ, vI x2, vJ, vI x4, vI x5, vL x6, vJ, vJ] [] M Q else Tq 358 11 [vJ, vJ, vJ, vJ, vJ, vJ, vJ, vJ, vJ] [vL x3] M Q) :=
  Tq_blk (is := bk_358_7) (dd := de_358) rfl rfl
/-- EarthOffice$Net quality block at 130 -/
theorem t358_8 {x2 x4 x5 x6 : Int} {M : Mem} {Q : AR → Mem → Prop} : Tq 358 8 [vJ, vJ, vI x2, vJ, vI x4, vI x5, vL x6, vJ, vJ] [] M Q ↔ (if ¬ x2 = (3 : Int) then Tq 358 9 [vJ, vJ, vI x2, vJ, vJ, vI x5, vL x6, vJ, vJ] [] M Q else Tq 358 11 [vJ, vJ, vJ, vJ, vJ, vJ, vJ, vJ, vJ] [vL x4] M Q) :=
  Tq_blk (is := bk_358_8) (dd := de_358) rfl rfl
/-- EarthOffice$Net quality block at 141 -/
theorem t358_9 {x2 x5 x6 : Int} {M : Mem} {Q : AR → Mem → Prop} : Tq 358 9 [vJ, vJ, vI x2, vJ, vJ, vI x5, vL x6, vJ, vJ] [] M Q ↔ (if ¬ x2 = (4 : Int) then Tq 358 10 [vJ, vJ, vJ, vJ, vJ, vJ, vL x6, vJ, vJ] [] M Q else Tq 358 11 [vJ, vJ, vJ, vJ, vJ, vJ, vJ, vJ, vJ] [vL x5] M Q) :=
  Tq_blk (is := bk_358_9) (dd := de_358) rfl rfl
/-- EarthOffice$Net quality block at 152 -/
theorem t358_10 {x6 : Int} {M : Mem} {Q : AR → Mem → Prop} : Tq 358 10 [vJ, vJ, vJ, vJ, vJ, vJ, vL x6, vJ, vJ] [] M Q ↔ (Tq 358 11 [vJ, vJ, vJ, vJ, vJ, vJ, vJ, vJ, vJ] [vL x6] M Q) :=
  Tq_blk (is := bk_358_10) (dd := de_358) rfl rfl
/-- EarthOffice$Net quality block at 154 -/
theorem t358_11 {s0 : Int} {M : Mem} {Q : AR → Mem → Prop} : Tq 358 11 [vJ, vJ, vJ, vJ, vJ, vJ, vJ, vJ, vJ] [vL s0] M Q ↔ (Q (.inl (some (vL s0))) M) :=
  Tq_blk (is := bk_358_11) (dd := de_358) rfl rfl
/-- EarthOffice$Net clear block at 0 -/
theorem t359_0 {M : Mem} {Q : AR → Mem → Prop} : Tq 359 0 [vR 5 0] [] M Q ↔ (bd (mset M 5 0 0 0) fun M1 => Tq 4 0 [vR 5004 0, vI 0, vJ, vJ] [] M1 (kV fun M2 => Q (.inl none) M2)) :=
  Tq_blk (is := bk_359_0) (dd := de_359) rfl rfl
