/-! BLOCKS (printed by gen/lem.py) -/
set_option maxRecDepth 100000
/-- EarthOffice associate block at 0 -/
theorem t60_0 {x1 x2 : Int} {M : Mem} {Q : AR → Mem → Prop} : Tq 60 0 [vR 1 0, vI x1, vI x2, vJ, vJ] [] M Q ↔ (Tq 25 0 [vI x1, vI 0, vI 64] [] M (kI fun v1 M1 => if v1 = 0 then Tq 60 1 [vJ, vJ, vJ, vJ, vJ] [] M1 Q else Tq 25 0 [vI x2, vI 1, vI 99] [] M1 (kI fun v2 M2 => if ¬ v2 = 0 then Tq 60 2 [vR 1 0, vI x1, vI x2, vJ, vJ] [] M2 Q else Tq 60 1 [vJ, vJ, vJ, vJ, vJ] [] M2 Q))) :=
  Tq_blk (is := bk_60_0) (dd := de_60) rfl rfl
/-- EarthOffice associate block at 20 -/
theorem t60_1 {M : Mem} {Q : AR → Mem → Prop} : Tq 60 1 [vJ, vJ, vJ, vJ, vJ] [] M Q ↔ (Q (.inl (some (vI (-1)))) M) :=
  Tq_blk (is := bk_60_1) (dd := de_60) rfl rfl
/-- EarthOffice associate block at 22 -/
theorem t60_2 {x1 x2 : Int} {M : Mem} {Q : AR → Mem → Prop} : Tq 60 2 [vR 1 0, vI x1, vI x2, vJ, vJ] [] M Q ↔ (Tq 60 3 [vR 1 0, vI x1, vI x2, vI 0, vJ] [] M Q) :=
  Tq_blk (is := bk_60_2) (dd := de_60) rfl rfl
/-- EarthOffice associate block at 24 -/
theorem t60_3 {x1 x2 x3 : Int} {M : Mem} {Q : AR → Mem → Prop} : Tq 60 3 [vR 1 0, vI x1, vI x2, vI x3, vJ] [] M Q ↔ (Tq 149 0 [vR 19 0, vI x1, vI x2, vJ, vJ, vJ] [] M (kI fun v1 M1 => if v1 = 0 then Tq 60 8 [vJ, vJ, vJ, vI x3, vJ] [] M1 Q else Tq 152 0 [vR 19 0, vI x1, vR 1015 0, vJ, vJ] [] M1 (kI fun v2 M2 => if M2 6 0 1 = (24 : Int) then Tq 60 4 [vJ, vJ, vJ, vI x3, vJ] [] M2 Q else Tq 119 0 [vR 14 0, vI (w32 (25 + w32 (20 * v2)))] [] M2 (kI fun v3 M3 => if ¬ v3 = 0 then Tq 60 7 [vR 1 0, vI x1, vI x2, vI x3, vI v2] [] M3 Q else Tq 60 4 [vJ, vJ, vJ, vI x3, vJ] [] M3 Q)))) :=
  Tq_blk (is := bk_60_3) (dd := de_60) rfl rfl
/-- EarthOffice associate block at 80 -/
theorem t60_4 {x3 : Int} {M : Mem} {Q : AR → Mem → Prop} : Tq 60 4 [vJ, vJ, vJ, vI x3, vJ] [] M Q ↔ (if ¬ x3 = 0 then Tq 60 5 [vJ, vJ, vJ, vI x3, vJ] [] M Q else Tq 60 6 [vJ, vJ, vJ, vJ, vJ] [vI (-3)] M Q) :=
  Tq_blk (is := bk_60_4) (dd := de_60) rfl rfl
/-- EarthOffice associate block at 89 -/
theorem t60_5 {x3 : Int} {M : Mem} {Q : AR → Mem → Prop} : Tq 60 5 [vJ, vJ, vJ, vI x3, vJ] [] M Q ↔ (Tq 60 6 [vJ, vJ, vJ, vJ, vJ] [vI x3] M Q) :=
  Tq_blk (is := bk_60_5) (dd := de_60) rfl rfl
/-- EarthOffice associate block at 90 -/
theorem t60_6 {s0 : Int} {M : Mem} {Q : AR → Mem → Prop} : Tq 60 6 [vJ, vJ, vJ, vJ, vJ] [vI s0] M Q ↔ (Q (.inl (some (vI s0))) M) :=
  Tq_blk (is := bk_60_6) (dd := de_60) rfl rfl
/-- EarthOffice associate block at 91 -/
theorem t60_7 {x1 x2 x3 x4 : Int} {M : Mem} {Q : AR → Mem → Prop} : Tq 60 7 [vR 1 0, vI x1, vI x2, vI x3, vI x4] [] M Q ↔ (Tq 63 0 [vR 1 0, vI x4, vJ, vJ, vJ, vJ] [] M (kV fun M1 => Tq 60 3 [vR 1 0, vI x1, vI x2, vI (w32 (x3 + 1)), vJ] [] M1 Q)) :=
  Tq_blk (is := bk_60_7) (dd := de_60) rfl rfl
/-- EarthOffice associate block at 103 -/
theorem t60_8 {x3 : Int} {M : Mem} {Q : AR → Mem → Prop} : Tq 60 8 [vJ, vJ, vJ, vI x3, vJ] [] M Q ↔ (Q (.inl (some (vI x3))) M) :=
  Tq_blk (is := bk_60_8) (dd := de_60) rfl rfl
/-- EarthOffice distance block at 0 -/
theorem t61_0 {x0 x1 x2 x3 : Int} {M : Mem} {Q : AR → Mem → Prop} : Tq 61 0 [vI x0, vI x1, vI x2, vI x3] [] M Q ↔ (Tq 62 0 [vI (w32 (w32 ((w32 (x0 - x2)) * (w32 (x0 - x2))) + w32 ((w32 (x1 - x3)) * (w32 (x1 - x3))))), vJ, vJ] [] M (kI fun v1 M1 => Q (.inl (some (vI v1))) M1)) :=
  Tq_blk (is := bk_61_0) (dd := de_61) rfl rfl
/-- EarthOffice root block at 0 -/
theorem t62_0 {x0 : Int} {M : Mem} {Q : AR → Mem → Prop} : Tq 62 0 [vI x0, vJ, vJ] [] M Q ↔ (Tq 62 1 [vI x0, vI 0, vI 32768] [] M Q) :=
  Tq_blk (is := bk_62_0) (dd := de_62) rfl rfl
/-- EarthOffice root block at 5 -/
theorem t62_1 {x0 x1 x2 : Int} {M : Mem} {Q : AR → Mem → Prop} : Tq 62 1 [vI x0, vI x1, vI x2] [] M Q ↔ (if x2 ≤ 0 then Tq 62 4 [vJ, vI x1, vJ] [] M Q else if 0 < cmp64 (w64 ((w32 (x1 + x2)) * (w32 (x1 + x2)))) x0 then Tq 62 2 [vI x0, vJ, vI x2] [vI x1] M Q else Tq 62 3 [vI x0, vJ, vI x2] [vI x2, vI x1] M Q) :=
  Tq_blk (is := bk_62_1) (dd := de_62) rfl rfl
/-- EarthOffice root block at 29 -/
theorem t62_2 {x0 x2 s0 : Int} {M : Mem} {Q : AR → Mem → Prop} : Tq 62 2 [vI x0, vJ, vI x2] [vI s0] M Q ↔ (Tq 62 3 [vI x0, vJ, vI x2] [vI 0, vI s0] M Q) :=
  Tq_blk (is := bk_62_2) (dd := de_62) rfl rfl
/-- EarthOffice root block at 30 -/
theorem t62_3 {x0 x2 s0 s1 : Int} {M : Mem} {Q : AR → Mem → Prop} : Tq 62 3 [vI x0, vJ, vI x2] [vI s0, vI s1] M Q ↔ (Tq 62 1 [vI x0, vI (w32 (s1 + s0)), vI (shr32 x2 1)] [] M Q) :=
  Tq_blk (is := bk_62_3) (dd := de_62) rfl rfl
/-- EarthOffice root block at 39 -/
theorem t62_4 {x1 : Int} {M : Mem} {Q : AR → Mem → Prop} : Tq 62 4 [vJ, vI x1, vJ] [] M Q ↔ (Q (.inl (some (vI x1))) M) :=
  Tq_blk (is := bk_62_4) (dd := de_62) rfl rfl
/-- EarthOffice found block at 0 -/
theorem t63_0 {x1 : Int} {M : Mem} {Q : AR → Mem → Prop} : Tq 63 0 [vR 1 0, vI x1, vJ, vJ, vJ, vJ] [] M Q ↔ (Tq 360 0 [vR 6 0, vJ] [] M (kR 7 fun v1 M1 => Tq 63 1 [vR 1 0, vI x1, vR 7 v1, vI 0, vI 0, vJ] [] M1 Q)) :=
  Tq_blk (is := bk_63_0) (dd := de_63) rfl rfl
/-- EarthOffice found block at 13 -/
theorem t63_1_c69 {x1 x2 x3 x4 x5 s0 s1 : Int} {M : Mem} {Q : AR → Mem → Prop} : Bq 63 de_63 (List.drop 69 bk_63_1) [vR 1 0, vI x1, vR 7 x2, vI x3, vI x4, vI x5] [vI s0, vI s1, vR 18006 0] M Q ↔ (((0 : Int) ≤ s1 ∧ s1 < 64) ∧ bd (mset M 18006 0 s1 s0) fun M1 => Tq 63 1 [vR 1 0, vI x1, vR 7 x2, vI x3, vI (w32 (x4 + 1)), vJ] [] M1 Q) :=
  Iff.rfl
theorem t63_1_c63 {x1 x2 x3 x4 x5 : Int} {M : Mem} {Q : AR → Mem → Prop} : Bq 63 de_63 (List.drop 63 bk_63_1) [vR 1 0, vI x1, vR 7 x2, vI x3, vI x4, vI x5] [vR 18006 0] M Q ↔ (((0 : Int) ≤ x5 ∧ x5 < 64) ∧ bd (mset M 18006 0 x5 (w32 (M 6 0 1 - 1))) fun M1 => Tq 63 1 [vR 1 0, vI x1, vR 7 x2, vI x3, vI (w32 (x4 + 1)), vJ] [] M1 Q) :=
  (show Bq 63 de_63 (List.drop 63 bk_63_1) [vR 1 0, vI x1, vR 7 x2, vI x3, vI x4, vI x5] [vR 18006 0] M Q ↔ (Bq 63 de_63 (List.drop 69 bk_63_1) [vR 1 0, vI x1, vR 7 x2, vI x3, vI x4, vI x5] [vI (w32 (M 6 0 1 - 1)), vI x5, vR 18006 0] M Q) from Iff.rfl).trans (by simp only [t63_1_c69])
theorem t63_1_c57 {x1 x2 x3 x4 x5 s0 s1 s2 : Int} {M : Mem} {Q : AR → Mem → Prop} : Bq 63 de_63 (List.drop 57 bk_63_1) [vR 1 0, vI x1, vR 7 x2, vI x3, vI x4, vI x5] [vI s0, vI s1, vI s2] M Q ↔ (((0 : Int) ≤ x5 ∧ x5 < 64) ∧ bd (mset M 18006 0 x5 (w32 (M 6 0 1 - 1))) fun M1 => Tq 63 1 [vR 1 0, vI x1, vR 7 x2, vI (w32 (s2 + w32 (s1 * s0))), vI (w32 (x4 + 1)), vJ] [] M1 Q) :=
  (show Bq 63 de_63 (List.drop 57 bk_63_1) [vR 1 0, vI x1, vR 7 x2, vI x3, vI x4, vI x5] [vI s0, vI s1, vI s2] M Q ↔ (Bq 63 de_63 (List.drop 63 bk_63_1) [vR 1 0, vI x1, vR 7 x2, vI (w32 (s2 + w32 (s1 * s0))), vI x4, vI x5] [vR 18006 0] M Q) from Iff.rfl).trans (by simp only [t63_1_c63])
theorem t63_1_c51 {x1 x2 x3 x4 x5 s0 s3 s4 : Int} {M : Mem} {Q : AR → Mem → Prop} : Bq 63 de_63 (List.drop 51 bk_63_1) [vR 1 0, vI x1, vR 7 x2, vI x3, vI x4, vI x5] [vI s0, vR 1015 0, vR 19004 0, vI s3, vI s4] M Q ↔ (((0 : Int) ≤ s0 ∧ s0 < 24) ∧ ((0 : Int) ≤ M 1015 0 s0 ∧ M 1015 0 s0 < 64) ∧ ((0 : Int) ≤ x5 ∧ x5 < 64) ∧ bd (mset M 18006 0 x5 (w32 (M 6 0 1 - 1))) fun M1 => Tq 63 1 [vR 1 0, vI x1, vR 7 x2, vI (w32 (s4 + w32 (s3 * (w32 (M 19004 0 (M 1015 0 s0) - (M 19 0 12)))))), vI (w32 (x4 + 1)), vJ] [] M1 Q) :=
  (show Bq 63 de_63 (List.drop 51 bk_63_1) [vR 1 0, vI x1, vR 7 x2, vI x3, vI x4, vI x5] [vI s0, vR 1015 0, vR 19004 0, vI s3, vI s4] M Q ↔ (((0 : Int) ≤ s0 ∧ s0 < 24) ∧ ((0 : Int) ≤ M 1015 0 s0 ∧ M 1015 0 s0 < 64) ∧ Bq 63 de_63 (List.drop 57 bk_63_1) [vR 1 0, vI x1, vR 7 x2, vI x3, vI x4, vI x5] [vI (w32 (M 19004 0 (M 1015 0 s0) - (M 19 0 12))), vI s3, vI s4] M Q) from Iff.rfl).trans (by simp only [t63_1_c57])
theorem t63_1_c45 {x1 x2 x3 x4 x5 s0 s1 : Int} {M : Mem} {Q : AR → Mem → Prop} : Bq 63 de_63 (List.drop 45 bk_63_1) [vR 1 0, vI x1, vR 7 x2, vI x3, vI x4, vI x5] [vI s0, vI s1] M Q ↔ (((0 : Int) ≤ x4 ∧ x4 < 24) ∧ ((0 : Int) ≤ M 1015 0 x4 ∧ M 1015 0 x4 < 64) ∧ ((0 : Int) ≤ x5 ∧ x5 < 64) ∧ bd (mset M 18006 0 x5 (w32 (M 6 0 1 - 1))) fun M1 => Tq 63 1 [vR 1 0, vI x1, vR 7 x2, vI (w32 (s1 + w32 (s0 * (w32 (M 19004 0 (M 1015 0 x4) - (M 19 0 12)))))), vI (w32 (x4 + 1)), vJ] [] M1 Q) :=
  (show Bq 63 de_63 (List.drop 45 bk_63_1) [vR 1 0, vI x1, vR 7 x2, vI x3, vI x4, vI x5] [vI s0, vI s1] M Q ↔ (Bq 63 de_63 (List.drop 51 bk_63_1) [vR 1 0, vI x1, vR 7 x2, vI x3, vI x4, vI x5] [vI x4, vR 1015 0, vR 19004 0, vI s0, vI s1] M Q) from Iff.rfl).trans (by simp only [t63_1_c51])
theorem t63_1_c39 {x1 x2 x3 x4 x5 : Int} {M : Mem} {Q : AR → Mem → Prop} : Bq 63 de_63 (List.drop 39 bk_63_1) [vR 1 0, vI x1, vR 7 x2, vI x3, vI x4, vI x5] [] M Q ↔ (((0 : Int) ≤ x5 ∧ x5 < 64) ∧ ((0 : Int) ≤ x4 ∧ x4 < 24) ∧ ((0 : Int) ≤ M 1015 0 x4 ∧ M 1015 0 x4 < 64) ∧ ((0 : Int) ≤ x5 ∧ x5 < 64) ∧ bd (mset M 18006 0 x5 (w32 (M 6 0 1 - 1))) fun M1 => Tq 63 1 [vR 1 0, vI x1, vR 7 x2, vI (w32 (x3 + w32 ((M 18004 0 x5) * (w32 (M 19004 0 (M 1015 0 x4) - (M 19 0 12)))))), vI (w32 (x4 + 1)), vJ] [] M1 Q) :=
  (show Bq 63 de_63 (List.drop 39 bk_63_1) [vR 1 0, vI x1, vR 7 x2, vI x3, vI x4, vI x5] [] M Q ↔ (((0 : Int) ≤ x5 ∧ x5 < 64) ∧ Bq 63 de_63 (List.drop 45 bk_63_1) [vR 1 0, vI x1, vR 7 x2, vI x3, vI x4, vI x5] [vI (M 18004 0 x5), vI x3] M Q) from Iff.rfl).trans (by simp only [t63_1_c45])
theorem t63_1_c36 {x1 x2 x3 x4 x5 s1 s2 s3 s4 s5 : Int} {M : Mem} {Q : AR → Mem → Prop} : Bq 63 de_63 (List.drop 36 bk_63_1) [vR 1 0, vI x1, vR 7 x2, vI x3, vI x4, vI x5] [vR 18005 0, vI s1, vI s2, vI s3, vI s4, vR 7 s5] M Q ↔ (((0 : Int) ≤ x5 ∧ x5 < 64) ∧ Tq 368 0 [vR 7 s5, vI s4, vI s3, vI s2, vI s1, vI (M 18005 0 x5), vJ] [] M (kV fun M1 => ((0 : Int) ≤ x5 ∧ x5 < 64) ∧ ((0 : Int) ≤ x4 ∧ x4 < 24) ∧ ((0 : Int) ≤ M1 1015 0 x4 ∧ M1 1015 0 x4 < 64) ∧ ((0 : Int) ≤ x5 ∧ x5 < 64) ∧ bd (mset M1 18006 0 x5 (w32 (M1 6 0 1 - 1))) fun M2 => Tq 63 1 [vR 1 0, vI x1, vR 7 x2, vI (w32 (x3 + w32 ((M1 18004 0 x5) * (w32 (M1 19004 0 (M1 1015 0 x4) - (M1 19 0 12)))))), vI (w32 (x4 + 1)), vJ] [] M2 Q)) :=
  (show Bq 63 de_63 (List.drop 36 bk_63_1) [vR 1 0, vI x1, vR 7 x2, vI x3, vI x4, vI x5] [vR 18005 0, vI s1, vI s2, vI s3, vI s4, vR 7 s5] M Q ↔ (((0 : Int) ≤ x5 ∧ x5 < 64) ∧ Tq 368 0 [vR 7 s5, vI s4, vI s3, vI s2, vI s1, vI (M 18005 0 x5), vJ] [] M (kV fun M1 => Bq 63 de_63 (List.drop 39 bk_63_1) [vR 1 0, vI x1, vR 7 x2, vI x3, vI x4, vI x5] [] M1 Q)) from Iff.rfl).trans (by simp only [t63_1_c39])
theorem t63_1_c30 {x1 x2 x3 x4 x5 s1 s2 s3 s4 : Int} {M : Mem} {Q : AR → Mem → Prop} : Bq 63 de_63 (List.drop 30 bk_63_1) [vR 1 0, vI x1, vR 7 x2, vI x3, vI x4, vI x5] [vR 18 0, vI s1, vI s2, vI s3, vR 7 s4] M Q ↔ (((0 : Int) ≤ x5 ∧ x5 < 64) ∧ ((0 : Int) ≤ x5 ∧ x5 < 64) ∧ Tq 368 0 [vR 7 s4, vI s3, vI s2, vI s1, vI (M 18004 0 x5), vI (M 18005 0 x5), vJ] [] M (kV fun M1 => ((0 : Int) ≤ x5 ∧ x5 < 64) ∧ ((0 : Int) ≤ x4 ∧ x4 < 24) ∧ ((0 : Int) ≤ M1 1015 0 x4 ∧ M1 1015 0 x4 < 64) ∧ ((0 : Int) ≤ x5 ∧ x5 < 64) ∧ bd (mset M1 18006 0 x5 (w32 (M1 6 0 1 - 1))) fun M2 => Tq 63 1 [vR 1 0, vI x1, vR 7 x2, vI (w32 (x3 + w32 ((M1 18004 0 x5) * (w32 (M1 19004 0 (M1 1015 0 x4) - (M1 19 0 12)))))), vI (w32 (x4 + 1)), vJ] [] M2 Q)) :=
  (show Bq 63 de_63 (List.drop 30 bk_63_1) [vR 1 0, vI x1, vR 7 x2, vI x3, vI x4, vI x5] [vR 18 0, vI s1, vI s2, vI s3, vR 7 s4] M Q ↔ (((0 : Int) ≤ x5 ∧ x5 < 64) ∧ Bq 63 de_63 (List.drop 36 bk_63_1) [vR 1 0, vI x1, vR 7 x2, vI x3, vI x4, vI x5] [vR 18005 0, vI (M 18004 0 x5), vI s1, vI s2, vI s3, vR 7 s4] M Q) from Iff.rfl).trans (by simp only [t63_1_c36])
theorem t63_1_c24 {x1 x2 x3 x4 x5 s1 s2 s3 : Int} {M : Mem} {Q : AR → Mem → Prop} : Bq 63 de_63 (List.drop 24 bk_63_1) [vR 1 0, vI x1, vR 7 x2, vI x3, vI x4, vI x5] [vR 1 0, vI s1, vI s2, vR 7 s3] M Q ↔ (((0 : Int) ≤ x5 ∧ x5 < 64) ∧ ((0 : Int) ≤ x5 ∧ x5 < 64) ∧ ((0 : Int) ≤ x5 ∧ x5 < 64) ∧ Tq 368 0 [vR 7 s3, vI s2, vI s1, vI (M 18003 0 x5), vI (M 18004 0 x5), vI (M 18005 0 x5), vJ] [] M (kV fun M1 => ((0 : Int) ≤ x5 ∧ x5 < 64) ∧ ((0 : Int) ≤ x4 ∧ x4 < 24) ∧ ((0 : Int) ≤ M1 1015 0 x4 ∧ M1 1015 0 x4 < 64) ∧ ((0 : Int) ≤ x5 ∧ x5 < 64) ∧ bd (mset M1 18006 0 x5 (w32 (M1 6 0 1 - 1))) fun M2 => Tq 63 1 [vR 1 0, vI x1, vR 7 x2, vI (w32 (x3 + w32 ((M1 18004 0 x5) * (w32 (M1 19004 0 (M1 1015 0 x4) - (M1 19 0 12)))))), vI (w32 (x4 + 1)), vJ] [] M2 Q)) :=
  (show Bq 63 de_63 (List.drop 24 bk_63_1) [vR 1 0, vI x1, vR 7 x2, vI x3, vI x4, vI x5] [vR 1 0, vI s1, vI s2, vR 7 s3] M Q ↔ (((0 : Int) ≤ x5 ∧ x5 < 64) ∧ Bq 63 de_63 (List.drop 30 bk_63_1) [vR 1 0, vI x1, vR 7 x2, vI x3, vI x4, vI x5] [vR 18 0, vI (M 18003 0 x5), vI s1, vI s2, vR 7 s3] M Q) from Iff.rfl).trans (by simp only [t63_1_c30])
theorem t63_1_c18 {x1 x2 x3 x4 x5 s0 s1 : Int} {M : Mem} {Q : AR → Mem → Prop} : Bq 63 de_63 (List.drop 18 bk_63_1) [vR 1 0, vI x1, vR 7 x2, vI x3, vI x4, vI x5] [vI s0, vR 7 s1] M Q ↔ (((0 : Int) ≤ x5 ∧ x5 < 64) ∧ ((0 : Int) ≤ x5 ∧ x5 < 64) ∧ ((0 : Int) ≤ x5 ∧ x5 < 64) ∧ ((0 : Int) ≤ x5 ∧ x5 < 64) ∧ Tq 368 0 [vR 7 s1, vI s0, vI (M 18002 0 x5), vI (M 18003 0 x5), vI (M 18004 0 x5), vI (M 18005 0 x5), vJ] [] M (kV fun M1 => ((0 : Int) ≤ x5 ∧ x5 < 64) ∧ ((0 : Int) ≤ x4 ∧ x4 < 24) ∧ ((0 : Int) ≤ M1 1015 0 x4 ∧ M1 1015 0 x4 < 64) ∧ ((0 : Int) ≤ x5 ∧ x5 < 64) ∧ bd (mset M1 18006 0 x5 (w32 (M1 6 0 1 - 1))) fun M2 => Tq 63 1 [vR 1 0, vI x1, vR 7 x2, vI (w32 (x3 + w32 ((M1 18004 0 x5) * (w32 (M1 19004 0 (M1 1015 0 x4) - (M1 19 0 12)))))), vI (w32 (x4 + 1)), vJ] [] M2 Q)) :=
  (show Bq 63 de_63 (List.drop 18 bk_63_1) [vR 1 0, vI x1, vR 7 x2, vI x3, vI x4, vI x5] [vI s0, vR 7 s1] M Q ↔ (((0 : Int) ≤ x5 ∧ x5 < 64) ∧ Bq 63 de_63 (List.drop 24 bk_63_1) [vR 1 0, vI x1, vR 7 x2, vI x3, vI x4, vI x5] [vR 1 0, vI (M 18002 0 x5), vI s0, vR 7 s1] M Q) from Iff.rfl).trans (by simp only [t63_1_c24])
theorem t63_1_c12 {x1 x2 x3 x4 x5 : Int} {M : Mem} {Q : AR → Mem → Prop} : Bq 63 de_63 (List.drop 12 bk_63_1) [vR 1 0, vI x1, vR 7 x2, vI x3, vI x4, vI x5] [] M Q ↔ (((0 : Int) ≤ x5 ∧ x5 < 64) ∧ ((0 : Int) ≤ x5 ∧ x5 < 64) ∧ ((0 : Int) ≤ x5 ∧ x5 < 64) ∧ ((0 : Int) ≤ x5 ∧ x5 < 64) ∧ ((0 : Int) ≤ x5 ∧ x5 < 64) ∧ Tq 368 0 [vR 7 x2, vI (M 18001 0 x5), vI (M 18002 0 x5), vI (M 18003 0 x5), vI (M 18004 0 x5), vI (M 18005 0 x5), vJ] [] M (kV fun M1 => ((0 : Int) ≤ x5 ∧ x5 < 64) ∧ ((0 : Int) ≤ x4 ∧ x4 < 24) ∧ ((0 : Int) ≤ M1 1015 0 x4 ∧ M1 1015 0 x4 < 64) ∧ ((0 : Int) ≤ x5 ∧ x5 < 64) ∧ bd (mset M1 18006 0 x5 (w32 (M1 6 0 1 - 1))) fun M2 => Tq 63 1 [vR 1 0, vI x1, vR 7 x2, vI (w32 (x3 + w32 ((M1 18004 0 x5) * (w32 (M1 19004 0 (M1 1015 0 x4) - (M1 19 0 12)))))), vI (w32 (x4 + 1)), vJ] [] M2 Q)) :=
  (show Bq 63 de_63 (List.drop 12 bk_63_1) [vR 1 0, vI x1, vR 7 x2, vI x3, vI x4, vI x5] [] M Q ↔ (((0 : Int) ≤ x5 ∧ x5 < 64) ∧ Bq 63 de_63 (List.drop 18 bk_63_1) [vR 1 0, vI x1, vR 7 x2, vI x3, vI x4, vI x5] [vI (M 18001 0 x5), vR 7 x2] M Q) from Iff.rfl).trans (by simp only [t63_1_c18])
theorem t63_1_c6 {x1 x2 x3 x4 : Int} {M : Mem} {Q : AR → Mem → Prop} : Bq 63 de_63 (List.drop 6 bk_63_1) [vR 1 0, vI x1, vR 7 x2, vI x3, vI x4, vJ] [vR 19003 0] M Q ↔ (((0 : Int) ≤ x4 ∧ x4 < 24) ∧ ((0 : Int) ≤ M 1015 0 x4 ∧ M 1015 0 x4 < 64) ∧ ((0 : Int) ≤ M 19003 0 (M 1015 0 x4) ∧ M 19003 0 (M 1015 0 x4) < 64) ∧ ((0 : Int) ≤ M 19003 0 (M 1015 0 x4) ∧ M 19003 0 (M 1015 0 x4) < 64) ∧ ((0 : Int) ≤ M 19003 0 (M 1015 0 x4) ∧ M 19003 0 (M 1015 0 x4) < 64) ∧ ((0 : Int) ≤ M 19003 0 (M 1015 0 x4) ∧ M 19003 0 (M 1015 0 x4) < 64) ∧ ((0 : Int) ≤ M 19003 0 (M 1015 0 x4) ∧ M 19003 0 (M 1015 0 x4) < 64) ∧ Tq 368 0 [vR 7 x2, vI (M 18001 0 (M 19003 0 (M 1015 0 x4))), vI (M 18002 0 (M 19003 0 (M 1015 0 x4))), vI (M 18003 0 (M 19003 0 (M 1015 0 x4))), vI (M 18004 0 (M 19003 0 (M 1015 0 x4))), vI (M 18005 0 (M 19003 0 (M 1015 0 x4))), vJ] [] M (kV fun M1 => ((0 : Int) ≤ M 19003 0 (M 1015 0 x4) ∧ M 19003 0 (M 1015 0 x4) < 64) ∧ ((0 : Int) ≤ x4 ∧ x4 < 24) ∧ ((0 : Int) ≤ M1 1015 0 x4 ∧ M1 1015 0 x4 < 64) ∧ ((0 : Int) ≤ M 19003 0 (M 1015 0 x4) ∧ M 19003 0 (M 1015 0 x4) < 64) ∧ bd (mset M1 18006 0 (M 19003 0 (M 1015 0 x4)) (w32 (M1 6 0 1 - 1))) fun M2 => Tq 63 1 [vR 1 0, vI x1, vR 7 x2, vI (w32 (x3 + w32 ((M1 18004 0 (M 19003 0 (M 1015 0 x4))) * (w32 (M1 19004 0 (M1 1015 0 x4) - (M1 19 0 12)))))), vI (w32 (x4 + 1)), vJ] [] M2 Q)) :=
  (show Bq 63 de_63 (List.drop 6 bk_63_1) [vR 1 0, vI x1, vR 7 x2, vI x3, vI x4, vJ] [vR 19003 0] M Q ↔ (((0 : Int) ≤ x4 ∧ x4 < 24) ∧ ((0 : Int) ≤ M 1015 0 x4 ∧ M 1015 0 x4 < 64) ∧ Bq 63 de_63 (List.drop 12 bk_63_1) [vR 1 0, vI x1, vR 7 x2, vI x3, vI x4, vI (M 19003 0 (M 1015 0 x4))] [] M Q) from Iff.rfl).trans (by simp only [t63_1_c12])
theorem t63_1 {x1 x2 x3 x4 : Int} {M : Mem} {Q : AR → Mem → Prop} : Tq 63 1 [vR 1 0, vI x1, vR 7 x2, vI x3, vI x4, vJ] [] M Q ↔ (if x1 ≤ x4 then Tq 63 2 [vR 1 0, vI x1, vR 7 x2, vI x3, vJ, vJ] [] M Q else ((0 : Int) ≤ x4 ∧ x4 < 24) ∧ ((0 : Int) ≤ M 1015 0 x4 ∧ M 1015 0 x4 < 64) ∧ ((0 : Int) ≤ M 19003 0 (M 1015 0 x4) ∧ M 19003 0 (M 1015 0 x4) < 64) ∧ ((0 : Int) ≤ M 19003 0 (M 1015 0 x4) ∧ M 19003 0 (M 1015 0 x4) < 64) ∧ ((0 : Int) ≤ M 19003 0 (M 1015 0 x4) ∧ M 19003 0 (M 1015 0 x4) < 64) ∧ ((0 : Int) ≤ M 19003 0 (M 1015 0 x4) ∧ M 19003 0 (M 1015 0 x4) < 64) ∧ ((0 : Int) ≤ M 19003 0 (M 1015 0 x4) ∧ M 19003 0 (M 1015 0 x4) < 64) ∧ Tq 368 0 [vR 7 x2, vI (M 18001 0 (M 19003 0 (M 1015 0 x4))), vI (M 18002 0 (M 19003 0 (M 1015 0 x4))), vI (M 18003 0 (M 19003 0 (M 1015 0 x4))), vI (M 18004 0 (M 19003 0 (M 1015 0 x4))), vI (M 18005 0 (M 19003 0 (M 1015 0 x4))), vJ] [] M (kV fun M1 => ((0 : Int) ≤ M 19003 0 (M 1015 0 x4) ∧ M 19003 0 (M 1015 0 x4) < 64) ∧ ((0 : Int) ≤ x4 ∧ x4 < 24) ∧ ((0 : Int) ≤ M1 1015 0 x4 ∧ M1 1015 0 x4 < 64) ∧ ((0 : Int) ≤ M 19003 0 (M 1015 0 x4) ∧ M 19003 0 (M 1015 0 x4) < 64) ∧ bd (mset M1 18006 0 (M 19003 0 (M 1015 0 x4)) (w32 (M1 6 0 1 - 1))) fun M2 => Tq 63 1 [vR 1 0, vI x1, vR 7 x2, vI (w32 (x3 + w32 ((M1 18004 0 (M 19003 0 (M 1015 0 x4))) * (w32 (M1 19004 0 (M1 1015 0 x4) - (M1 19 0 12)))))), vI (w32 (x4 + 1)), vJ] [] M2 Q)) :=
  (show Tq 63 1 [vR 1 0, vI x1, vR 7 x2, vI x3, vI x4, vJ] [] M Q ↔ (if x1 ≤ x4 then Tq 63 2 [vR 1 0, vI x1, vR 7 x2, vI x3, vJ, vJ] [] M Q else Bq 63 de_63 (List.drop 6 bk_63_1) [vR 1 0, vI x1, vR 7 x2, vI x3, vI x4, vJ] [vR 19003 0] M Q) from Tq_blk (is := bk_63_1) (dd := de_63) rfl rfl).trans (by simp only [t63_1_c6])
/-- EarthOffice found block at 152 -/
theorem t63_2 {x1 x2 x3 : Int} {M : Mem} {Q : AR → Mem → Prop} : Tq 63 2 [vR 1 0, vI x1, vR 7 x2, vI x3, vJ, vJ] [] M Q ↔ (((0 : Int) ≤ 0 ∧ (0 : Int) < 8) ∧ bd (mset M 1014 0 0 0) fun M1 => ((0 : Int) ≤ 1 ∧ (1 : Int) < 8) ∧ bd (mset M1 1014 0 1 (M1 19 0 9)) fun M2 => ((0 : Int) ≤ 2 ∧ (2 : Int) < 8) ∧ bd (mset M2 1014 0 2 (M2 19 0 10)) fun M3 => ((0 : Int) ≤ 3 ∧ (3 : Int) < 8) ∧ bd (mset M3 1014 0 3 (M3 19 0 11)) fun M4 => ((0 : Int) ≤ 4 ∧ (4 : Int) < 8) ∧ bd (mset M4 1014 0 4 (M4 19 0 12)) fun M5 => ((0 : Int) ≤ 5 ∧ (5 : Int) < 8) ∧ bd (mset M5 1014 0 5 x3) fun M6 => ((0 : Int) ≤ 6 ∧ (6 : Int) < 8) ∧ bd (mset M6 1014 0 6 (-99999999)) fun M7 => Tq 121 0 [vR 14 0, vI (w32 (25 + w32 (20 * x1))), vI 69] [] M7 (kV fun M8 => Tq 63 3 [vR 1 0, vI x1, vR 7 x2, vJ, vI 1, vJ] [] M8 Q)) :=
  Tq_blk (is := bk_63_2) (dd := de_63) rfl rfl
/-- EarthOffice found block at 247 -/
theorem t63_3 {x1 x2 x4 : Int} {M : Mem} {Q : AR → Mem → Prop} : Tq 63 3 [vR 1 0, vI x1, vR 7 x2, vJ, vI x4, vJ] [] M Q ↔ (if (5 : Int) < x4 then Tq 63 4 [vR 1 0, vI x1, vR 7 x2, vJ, vJ, vJ] [] M Q else ((0 : Int) ≤ x4 ∧ x4 < 8) ∧ Tq 111 0 [vR 13 1, vI (M 1014 0 x4)] [] M (kV fun M1 => Tq 63 3 [vR 1 0, vI x1, vR 7 x2, vJ, vI (w32 (x4 + 1)), vJ] [] M1 Q)) :=
  Tq_blk (is := bk_63_3) (dd := de_63) rfl rfl
/-- EarthOffice found block at 276 -/
theorem t63_4 {x1 x2 : Int} {M : Mem} {Q : AR → Mem → Prop} : Tq 63 4 [vR 1 0, vI x1, vR 7 x2, vJ, vJ, vJ] [] M Q ↔ (Tq 111 0 [vR 13 1, vI x1] [] M (kV fun M1 => Tq 63 5 [vR 1 0, vI x1, vR 7 x2, vJ, vI 0, vJ] [] M1 Q)) :=
  Tq_blk (is := bk_63_4) (dd := de_63) rfl rfl
/-- EarthOffice found block at 290 -/
theorem t63_5 {x1 x2 x4 : Int} {M : Mem} {Q : AR → Mem → Prop} : Tq 63 5 [vR 1 0, vI x1, vR 7 x2, vJ, vI x4, vJ] [] M Q ↔ (if w32 (5 * x1) ≤ x4 then Tq 63 6 [vR 1 0, vJ, vR 7 x2, vJ, vJ, vJ] [] M Q else ((0 : Int) ≤ x4 ∧ x4 < 120) ∧ Tq 111 0 [vR 13 1, vI (M 7002 x2 x4)] [] M (kV fun M1 => Tq 63 5 [vR 1 0, vI x1, vR 7 x2, vJ, vI (w32 (x4 + 1)), vJ] [] M1 Q)) :=
  Tq_blk (is := bk_63_5) (dd := de_63) rfl rfl
/-- EarthOffice found block at 321 -/
theorem t63_6 {x2 : Int} {M : Mem} {Q : AR → Mem → Prop} : Tq 63 6 [vR 1 0, vJ, vR 7 x2, vJ, vJ, vJ] [] M Q ↔ (Tq 122 0 [vR 14 0] [] M (kV fun M1 => Tq 361 0 [vR 6 0, vR 7 x2, vR 1014 0, vI (M1 4 0 10)] [] M1 (kV fun M2 => Q (.inl none) M2))) :=
  Tq_blk (is := bk_63_6) (dd := de_63) rfl rfl
/-- EarthOffice locate block at 0 -/
theorem t64_0 {x1 : Int} {M : Mem} {Q : AR → Mem → Prop} : Tq 64 0 [vR 1 0, vI x1, vJ] [] M Q ↔ (Tq 362 0 [vR 6 0, vI x1] [] M (kI fun v1 M1 => if ¬ v1 = 0 then Tq 64 1 [vR 1 0, vI x1, vJ] [] M1 Q else Q (.inl (some (vI (-1)))) M1)) :=
  Tq_blk (is := bk_64_0) (dd := de_64) rfl rfl
/-- EarthOffice locate block at 13 -/
theorem t64_1 {x1 : Int} {M : Mem} {Q : AR → Mem → Prop} : Tq 64 1 [vR 1 0, vI x1, vJ] [] M Q ↔ (((0 : Int) ≤ x1 ∧ x1 < 24) ∧ if ¬ M 7 x1 4 = (-99999999) then Tq 64 2 [vJ, vJ, vJ] [] M Q else if (3 : Int) ≤ M 7 x1 3 then Tq 64 3 [vR 1 0, vI x1, vR 7 x1] [] M Q else Tq 64 2 [vJ, vJ, vJ] [] M Q) :=
  Tq_blk (is := bk_64_1) (dd := de_64) rfl rfl
/-- EarthOffice locate block at 41 -/
theorem t64_2 {M : Mem} {Q : AR → Mem → Prop} : Tq 64 2 [vJ, vJ, vJ] [] M Q ↔ (Q (.inl (some (vI (-2)))) M) :=
  Tq_blk (is := bk_64_2) (dd := de_64) rfl rfl
/-- EarthOffice locate block at 44 -/
theorem t64_3 {x1 x2 : Int} {M : Mem} {Q : AR → Mem → Prop} : Tq 64 3 [vR 1 0, vI x1, vR 7 x2] [] M Q ↔ (Tq 65 0 [vR 1 0, vR 7 x2] [] M (kI fun v1 M1 => if v1 = 0 then Tq 64 4 [vR 1 0, vI x1, vR 7 x2] [] M1 Q else Q (.inl (some (vI (-3)))) M1)) :=
  Tq_blk (is := bk_64_3) (dd := de_64) rfl rfl
/-- EarthOffice locate block at 55 -/
theorem t64_4 {x1 x2 : Int} {M : Mem} {Q : AR → Mem → Prop} : Tq 64 4 [vR 1 0, vI x1, vR 7 x2] [] M Q ↔ (Tq 153 0 [vR 20 0, vR 7 x2, vR 1014 0, vJ, vJ, vJ, vJ] [] M (kV fun M1 => Tq 66 0 [vR 1 0, vI x1, vJ] [] M1 (kI fun v1 M2 => Q (.inl (some (vI v1))) M2))) :=
  Tq_blk (is := bk_64_4) (dd := de_64) rfl rfl
/-- EarthOffice isFull block at 0 -/
theorem t65_0 {x1 : Int} {M : Mem} {Q : AR → Mem → Prop} : Tq 65 0 [vR 1 0, vR 7 x1] [] M Q ↔ (if M 7 x1 1 = (16 : Int) then Tq 65 1 [vJ, vJ] [] M Q else Tq 119 0 [vR 14 0, vI 33] [] M (kI fun v1 M1 => if ¬ v1 = 0 then Tq 65 2 [vJ, vJ] [] M1 Q else Tq 65 1 [vJ, vJ] [] M1 Q)) :=
  Tq_blk (is := bk_65_0) (dd := de_65) rfl rfl
/-- EarthOffice isFull block at 21 -/
theorem t65_1 {M : Mem} {Q : AR → Mem → Prop} : Tq 65 1 [vJ, vJ] [] M Q ↔ (Tq 65 3 [vJ, vJ] [vI 1] M Q) :=
  Tq_blk (is := bk_65_1) (dd := de_65) rfl rfl
/-- EarthOffice isFull block at 25 -/
theorem t65_2 {M : Mem} {Q : AR → Mem → Prop} : Tq 65 2 [vJ, vJ] [] M Q ↔ (Tq 65 3 [vJ, vJ] [vI 0] M Q) :=
  Tq_blk (is := bk_65_2) (dd := de_65) rfl rfl
/-- EarthOffice isFull block at 26 -/
theorem t65_3 {s0 : Int} {M : Mem} {Q : AR → Mem → Prop} : Tq 65 3 [vJ, vJ] [vI s0] M Q ↔ (Q (.inl (some (vI (nb s0)))) M) :=
  Tq_blk (is := bk_65_3) (dd := de_65) rfl rfl
/-- EarthOffice renewed block at 0 -/
theorem t66_0 {x1 : Int} {M : Mem} {Q : AR → Mem → Prop} : Tq 66 0 [vR 1 0, vI x1, vJ] [] M Q ↔ (Tq 121 0 [vR 14 0, vI 33, vI 86] [] M (kV fun M1 => Tq 111 0 [vR 13 1, vI x1] [] M1 (kV fun M2 => Tq 66 1 [vR 1 0, vI x1, vI 0] [] M2 Q))) :=
  Tq_blk (is := bk_66_0) (dd := de_66) rfl rfl
/-- EarthOffice renewed block at 24 -/
theorem t66_1 {x1 x2 : Int} {M : Mem} {Q : AR → Mem → Prop} : Tq 66 1 [vR 1 0, vI x1, vI x2] [] M Q ↔ (if (7 : Int) ≤ x2 then Tq 66 2 [vR 1 0, vI x1, vJ] [] M Q else ((0 : Int) ≤ x2 ∧ x2 < 8) ∧ Tq 111 0 [vR 13 1, vI (M 1014 0 x2)] [] M (kV fun M1 => Tq 66 1 [vR 1 0, vI x1, vI (w32 (x2 + 1))] [] M1 Q)) :=
  Tq_blk (is := bk_66_1) (dd := de_66) rfl rfl
/-- EarthOffice renewed block at 52 -/
theorem t66_2 {x1 : Int} {M : Mem} {Q : AR → Mem → Prop} : Tq 66 2 [vR 1 0, vI x1, vJ] [] M Q ↔ (Tq 122 0 [vR 14 0] [] M (kV fun M1 => ((0 : Int) ≤ x1 ∧ x1 < 24) ∧ Tq 361 0 [vR 6 0, vR 7 x1, vR 1014 0, vI (M1 4 0 10)] [] M1 (kV fun M2 => ((0 : Int) ≤ x1 ∧ x1 < 24) ∧ Q (.inl (some (vI (w32 (M2 7 x1 1 - 1))))) M2))) :=
  Tq_blk (is := bk_66_2) (dd := de_66) rfl rfl
/-- EarthOffice size block at 0 -/
theorem t67_0 {x1 : Int} {M : Mem} {Q : AR → Mem → Prop} : Tq 67 0 [vR 1 0, vI x1, vJ, vJ, vJ] [] M Q ↔ (Tq 362 0 [vR 6 0, vI x1] [] M (kI fun v1 M1 => if ¬ v1 = 0 then Tq 67 1 [vR 1 0, vI x1, vJ, vJ, vJ] [] M1 Q else Q (.inl (some (vI (-1)))) M1)) :=
  Tq_blk (is := bk_67_0) (dd := de_67) rfl rfl
/-- EarthOffice size block at 13 -/
theorem t67_1 {x1 : Int} {M : Mem} {Q : AR → Mem → Prop} : Tq 67 1 [vR 1 0, vI x1, vJ, vJ, vJ] [] M Q ↔ (((0 : Int) ≤ x1 ∧ x1 < 24) ∧ if M 7 x1 4 = (-99999999) then Tq 67 2 [vR 1 0, vI x1, vR 7 x1, vJ, vJ] [] M Q else Tq 67 3 [vR 1 0, vI x1, vR 7 x1, vJ, vJ] [vI (-99999999)] M Q) :=
  Tq_blk (is := bk_67_1) (dd := de_67) rfl rfl
/-- EarthOffice size block at 39 -/
theorem t67_2 {x1 x2 : Int} {M : Mem} {Q : AR → Mem → Prop} : Tq 67 2 [vR 1 0, vI x1, vR 7 x2, vJ, vJ] [] M Q ↔ (Tq 158 0 [vR 20 0, vR 7 x2, vJ, vJ, vJ, vJ, vJ, vJ, vJ, vJ] [] M (kI fun v1 M1 => Tq 67 3 [vR 1 0, vI x1, vR 7 x2, vJ, vJ] [vI v1] M1 Q)) :=
  Tq_blk (is := bk_67_2) (dd := de_67) rfl rfl
/-- EarthOffice size block at 47 -/
theorem t67_3 {x1 x2 s0 : Int} {M : Mem} {Q : AR → Mem → Prop} : Tq 67 3 [vR 1 0, vI x1, vR 7 x2, vJ, vJ] [vI s0] M Q ↔ (if ¬ s0 = (-99999999) then Tq 67 4 [vR 1 0, vI x1, vR 7 x2, vI s0, vJ] [] M Q else Q (.inl (some (vI (-2)))) M) :=
  Tq_blk (is := bk_67_3) (dd := de_67) rfl rfl
/-- EarthOffice size block at 58 -/
theorem t67_4 {x1 x2 x3 : Int} {M : Mem} {Q : AR → Mem → Prop} : Tq 67 4 [vR 1 0, vI x1, vR 7 x2, vI x3, vJ] [] M Q ↔ (Tq 65 0 [vR 1 0, vR 7 x2] [] M (kI fun v1 M1 => if v1 = 0 then Tq 67 5 [vR 1 0, vI x1, vR 7 x2, vI x3, vJ] [] M1 Q else Q (.inl (some (vI (-3)))) M1)) :=
  Tq_blk (is := bk_67_4) (dd := de_67) rfl rfl
/-- EarthOffice size block at 69 -/
theorem t67_5 {x1 x2 x3 : Int} {M : Mem} {Q : AR → Mem → Prop} : Tq 67 5 [vR 1 0, vI x1, vR 7 x2, vI x3, vJ] [] M Q ↔ (Tq 67 6 [vR 1 0, vI x1, vR 7 x2, vI x3, vI 1] [] M Q) :=
  Tq_blk (is := bk_67_5) (dd := de_67) rfl rfl
/-- EarthOffice size block at 72 -/
theorem t67_6 {x1 x2 x3 x4 : Int} {M : Mem} {Q : AR → Mem → Prop} : Tq 67 6 [vR 1 0, vI x1, vR 7 x2, vI x3, vI x4] [] M Q ↔ (if (5 : Int) < x4 then Tq 67 7 [vR 1 0, vI x1, vJ, vI x3, vJ] [] M Q else Tq 369 0 [vR 7 x2, vI x4] [] M (kI fun v1 M1 => ((0 : Int) ≤ x4 ∧ x4 < 8) ∧ bd (mset M1 1014 0 x4 v1) fun M2 => Tq 67 6 [vR 1 0, vI x1, vR 7 x2, vI x3, vI (w32 (x4 + 1))] [] M2 Q)) :=
  Tq_blk (is := bk_67_6) (dd := de_67) rfl rfl
/-- EarthOffice size block at 97 -/
theorem t67_7 {x1 x3 : Int} {M : Mem} {Q : AR → Mem → Prop} : Tq 67 7 [vR 1 0, vI x1, vJ, vI x3, vJ] [] M Q ↔ (((0 : Int) ≤ 0 ∧ (0 : Int) < 8) ∧ bd (mset M 1014 0 0 2) fun M1 => ((0 : Int) ≤ 6 ∧ (6 : Int) < 8) ∧ bd (mset M1 1014 0 6 x3) fun M2 => Tq 66 0 [vR 1 0, vI x1, vJ] [] M2 (kI fun v1 M3 => Q (.inl (some (vI v1))) M3)) :=
  Tq_blk (is := bk_67_7) (dd := de_67) rfl rfl
/-- EarthOffice merge block at 0 -/
theorem t68_0 {x1 x2 : Int} {M : Mem} {Q : AR → Mem → Prop} : Tq 68 0 [vR 1 0, vI x1, vI x2] [] M Q ↔ (Tq 362 0 [vR 6 0, vI x1] [] M (kI fun v1 M1 => if v1 = 0 then Tq 68 1 [vJ, vJ, vJ] [] M1 Q else Tq 362 0 [vR 6 0, vI x2] [] M1 (kI fun v2 M2 => if v2 = 0 then Tq 68 1 [vJ, vJ, vJ] [] M2 Q else if ¬ x1 = x2 then Tq 68 2 [vR 1 0, vI x1, vI x2] [] M2 Q else Tq 68 1 [vJ, vJ, vJ] [] M2 Q))) :=
  Tq_blk (is := bk_68_0) (dd := de_68) rfl rfl
/-- EarthOffice merge block at 27 -/
theorem t68_1 {M : Mem} {Q : AR → Mem → Prop} : Tq 68 1 [vJ, vJ, vJ] [] M Q ↔ (Q (.inl (some (vI (-1)))) M) :=
  Tq_blk (is := bk_68_1) (dd := de_68) rfl rfl
/-- EarthOffice merge block at 29 -/
theorem t68_2 {x1 x2 : Int} {M : Mem} {Q : AR → Mem → Prop} : Tq 68 2 [vR 1 0, vI x1, vI x2] [] M Q ↔ (((0 : Int) ≤ x1 ∧ x1 < 24) ∧ if ¬ M 7 x1 4 = (-99999999) then Tq 68 3 [vJ, vJ, vJ] [] M Q else ((0 : Int) ≤ x2 ∧ x2 < 24) ∧ if M 7 x2 4 = (-99999999) then Tq 68 4 [vR 1 0, vI x1, vI x2] [] M Q else Tq 68 3 [vJ, vJ, vJ] [] M Q) :=
  Tq_blk (is := bk_68_2) (dd := de_68) rfl rfl
/-- EarthOffice merge block at 65 -/
theorem t68_3 {M : Mem} {Q : AR → Mem → Prop} : Tq 68 3 [vJ, vJ, vJ] [] M Q ↔ (Q (.inl (some (vI (-2)))) M) :=
  Tq_blk (is := bk_68_3) (dd := de_68) rfl rfl
/-- EarthOffice merge block at 68 -/
theorem t68_4 {x1 x2 : Int} {M : Mem} {Q : AR → Mem → Prop} : Tq 68 4 [vR 1 0, vI x1, vI x2] [] M Q ↔ (Tq 119 0 [vR 14 0, vI 9] [] M (kI fun v1 M1 => if ¬ v1 = 0 then Tq 68 5 [vR 1 0, vI x1, vI x2] [] M1 Q else Q (.inl (some (vI (-3)))) M1)) :=
  Tq_blk (is := bk_68_4) (dd := de_68) rfl rfl
/-- EarthOffice merge block at 83 -/
theorem t68_5 {x1 x2 : Int} {M : Mem} {Q : AR → Mem → Prop} : Tq 68 5 [vR 1 0, vI x1, vI x2] [] M Q ↔ (Tq 120 0 [vR 14 0, vI 77, vI x1, vI x2] [] M (kV fun M1 => Tq 363 0 [vR 6 0, vI x1, vI x2, vJ, vJ, vJ] [] M1 (kV fun M2 => ((0 : Int) ≤ x1 ∧ x1 < 24) ∧ Q (.inl (some (vI (M2 7 x1 3)))) M2))) :=
  Tq_blk (is := bk_68_5) (dd := de_68) rfl rfl
/-- EarthOffice event block at 0 -/
theorem t69_0 {x1 x2 : Int} {M : Mem} {Q : AR → Mem → Prop} : Tq 69 0 [vR 1 0, vI x1, vI x2, vJ] [] M Q ↔ (Tq 362 0 [vR 6 0, vI x1] [] M (kI fun v1 M1 => if v1 = 0 then Tq 69 1 [vJ, vJ, vJ, vJ] [] M1 Q else Tq 25 0 [vI x2, vI 0, vI 4] [] M1 (kI fun v2 M2 => if ¬ v2 = 0 then Tq 69 2 [vR 1 0, vI x1, vI x2, vJ] [] M2 Q else Tq 69 1 [vJ, vJ, vJ, vJ] [] M2 Q))) :=
  Tq_blk (is := bk_69_0) (dd := de_69) rfl rfl
/-- EarthOffice event block at 20 -/
theorem t69_1 {M : Mem} {Q : AR → Mem → Prop} : Tq 69 1 [vJ, vJ, vJ, vJ] [] M Q ↔ (Q (.inl (some (vI (-1)))) M) :=
  Tq_blk (is := bk_69_1) (dd := de_69) rfl rfl
/-- EarthOffice event block at 22 -/
theorem t69_2 {x1 x2 : Int} {M : Mem} {Q : AR → Mem → Prop} : Tq 69 2 [vR 1 0, vI x1, vI x2, vJ] [] M Q ↔ (((0 : Int) ≤ x1 ∧ x1 < 24) ∧ if ¬ x2 = 0 then Tq 69 3 [vJ, vJ, vI x2, vR 7 x1] [] M Q else Tq 69 8 [vJ, vJ, vJ, vJ] [vI (M 7 x1 1)] M Q) :=
  Tq_blk (is := bk_69_2) (dd := de_69) rfl rfl
/-- EarthOffice event block at 43 -/
theorem t69_3 {x2 x3 : Int} {M : Mem} {Q : AR → Mem → Prop} : Tq 69 3 [vJ, vJ, vI x2, vR 7 x3] [] M Q ↔ (if ¬ x2 = (1 : Int) then Tq 69 4 [vJ, vJ, vI x2, vR 7 x3] [] M Q else Tq 69 8 [vJ, vJ, vJ, vJ] [vI (M 7 x3 3)] M Q) :=
  Tq_blk (is := bk_69_3) (dd := de_69) rfl rfl
/-- EarthOffice event block at 55 -/
theorem t69_4 {x2 x3 : Int} {M : Mem} {Q : AR → Mem → Prop} : Tq 69 4 [vJ, vJ, vI x2, vR 7 x3] [] M Q ↔ (if ¬ x2 = (2 : Int) then Tq 69 5 [vJ, vJ, vI x2, vR 7 x3] [] M Q else Tq 69 8 [vJ, vJ, vJ, vJ] [vI (M 7 x3 4)] M Q) :=
  Tq_blk (is := bk_69_4) (dd := de_69) rfl rfl
/-- EarthOffice event block at 67 -/
theorem t69_5 {x2 x3 : Int} {M : Mem} {Q : AR → Mem → Prop} : Tq 69 5 [vJ, vJ, vI x2, vR 7 x3] [] M Q ↔ (if ¬ x2 = (3 : Int) then Tq 69 6 [vJ, vJ, vJ, vJ] [vR 7 x3] M Q else Tq 69 7 [vJ, vJ, vJ, vJ] [vI 1, vR 7 x3] M Q) :=
  Tq_blk (is := bk_69_5) (dd := de_69) rfl rfl
/-- EarthOffice event block at 77 -/
theorem t69_6 {s0 : Int} {M : Mem} {Q : AR → Mem → Prop} : Tq 69 6 [vJ, vJ, vJ, vJ] [vR 7 s0] M Q ↔ (Tq 69 7 [vJ, vJ, vJ, vJ] [vI (-1), vR 7 s0] M Q) :=
  Tq_blk (is := bk_69_6) (dd := de_69) rfl rfl
/-- EarthOffice event block at 78 -/
theorem t69_7 {s0 s1 : Int} {M : Mem} {Q : AR → Mem → Prop} : Tq 69 7 [vJ, vJ, vJ, vJ] [vI s0, vR 7 s1] M Q ↔ (Tq 373 0 [vR 7 s1, vI s0, vJ, vJ] [] M (kI fun v1 M1 => Tq 69 8 [vJ, vJ, vJ, vJ] [vI v1] M1 Q)) :=
  Tq_blk (is := bk_69_7) (dd := de_69) rfl rfl
/-- EarthOffice event block at 81 -/
theorem t69_8 {s0 : Int} {M : Mem} {Q : AR → Mem → Prop} : Tq 69 8 [vJ, vJ, vJ, vJ] [vI s0] M Q ↔ (Q (.inl (some (vI s0))) M) :=
  Tq_blk (is := bk_69_8) (dd := de_69) rfl rfl
/-- EarthOffice version block at 0 -/
theorem t70_0 {x1 x2 x3 : Int} {M : Mem} {Q : AR → Mem → Prop} : Tq 70 0 [vR 1 0, vI x1, vI x2, vI x3] [] M Q ↔ (Tq 362 0 [vR 6 0, vI x1] [] M (kI fun v1 M1 => if v1 = 0 then Tq 70 1 [vJ, vJ, vJ, vJ] [] M1 Q else ((0 : Int) ≤ x1 ∧ x1 < 24) ∧ Tq 25 0 [vI x2, vI 0, vI (w32 (M1 7 x1 1 - 1))] [] M1 (kI fun v2 M2 => if v2 = 0 then Tq 70 1 [vJ, vJ, vJ, vJ] [] M2 Q else Tq 25 0 [vI x3, vI 0, vI 7] [] M2 (kI fun v3 M3 => if v3 = 0 then Tq 70 1 [vJ, vJ, vJ, vJ] [] M3 Q else ((0 : Int) ≤ x1 ∧ x1 < 24) ∧ Tq 370 0 [vR 7 x1, vI x2, vI x3] [] M3 (kI fun v4 M4 => Tq 70 2 [vJ, vJ, vJ, vJ] [vI v4] M4 Q))))) :=
  Tq_blk (is := bk_70_0) (dd := de_70) rfl rfl
/-- EarthOffice version block at 60 -/
theorem t70_1 {M : Mem} {Q : AR → Mem → Prop} : Tq 70 1 [vJ, vJ, vJ, vJ] [] M Q ↔ (Tq 70 2 [vJ, vJ, vJ, vJ] [vI (-99999999)] M Q) :=
  Tq_blk (is := bk_70_1) (dd := de_70) rfl rfl
/-- EarthOffice version block at 63 -/
theorem t70_2 {s0 : Int} {M : Mem} {Q : AR → Mem → Prop} : Tq 70 2 [vJ, vJ, vJ, vJ] [vI s0] M Q ↔ (Q (.inl (some (vI s0))) M) :=
  Tq_blk (is := bk_70_2) (dd := de_70) rfl rfl
/-- EarthOffice arrival block at 0 -/
theorem t71_0 {x1 x2 x3 : Int} {M : Mem} {Q : AR → Mem → Prop} : Tq 71 0 [vR 1 0, vI x1, vI x2, vI x3] [] M Q ↔ (Tq 362 0 [vR 6 0, vI x1] [] M (kI fun v1 M1 => if v1 = 0 then Tq 71 1 [vJ, vJ, vJ, vJ] [] M1 Q else ((0 : Int) ≤ x1 ∧ x1 < 24) ∧ Tq 25 0 [vI x2, vI 0, vI (w32 (M1 7 x1 3 - 1))] [] M1 (kI fun v2 M2 => if v2 = 0 then Tq 71 1 [vJ, vJ, vJ, vJ] [] M2 Q else Tq 25 0 [vI x3, vI 0, vI 4] [] M2 (kI fun v3 M3 => if v3 = 0 then Tq 71 1 [vJ, vJ, vJ, vJ] [] M3 Q else ((0 : Int) ≤ x1 ∧ x1 < 24) ∧ Tq 371 0 [vR 7 x1, vI x2, vI x3] [] M3 (kI fun v4 M4 => Tq 71 2 [vJ, vJ, vJ, vJ] [vI v4] M4 Q))))) :=
  Tq_blk (is := bk_71_0) (dd := de_71) rfl rfl
/-- EarthOffice arrival block at 59 -/
theorem t71_1 {M : Mem} {Q : AR → Mem → Prop} : Tq 71 1 [vJ, vJ, vJ, vJ] [] M Q ↔ (Tq 71 2 [vJ, vJ, vJ, vJ] [vI (-99999999)] M Q) :=
  Tq_blk (is := bk_71_1) (dd := de_71) rfl rfl
/-- EarthOffice arrival block at 62 -/
theorem t71_2 {s0 : Int} {M : Mem} {Q : AR → Mem → Prop} : Tq 71 2 [vJ, vJ, vJ, vJ] [vI s0] M Q ↔ (Q (.inl (some (vI s0))) M) :=
  Tq_blk (is := bk_71_2) (dd := de_71) rfl rfl
/-- EarthOffice gauge block at 0 -/
theorem t72_0 {x1 x2 : Int} {M : Mem} {Q : AR → Mem → Prop} : Tq 72 0 [vR 1 0, vI x1, vI x2] [] M Q ↔ (Tq 28 0 [vI x1, vI x2] [] M (kI fun v1 M1 => if ¬ v1 = 0 then Tq 72 1 [vR 1 0, vI x1, vI x2] [] M1 Q else Q (.inl (some (vI (-1)))) M1)) :=
  Tq_blk (is := bk_72_0) (dd := de_72) rfl rfl
/-- EarthOffice gauge block at 10 -/
theorem t72_1 {x1 x2 : Int} {M : Mem} {Q : AR → Mem → Prop} : Tq 72 1 [vR 1 0, vI x1, vI x2] [] M Q ↔ (if M 8 0 0 = (4 : Int) then Tq 72 2 [vJ, vJ, vJ] [] M Q else Tq 119 0 [vR 14 0, vI 9] [] M (kI fun v1 M1 => if ¬ v1 = 0 then Tq 72 3 [vR 1 0, vI x1, vI x2] [] M1 Q else Tq 72 2 [vJ, vJ, vJ] [] M1 Q)) :=
  Tq_blk (is := bk_72_1) (dd := de_72) rfl rfl
/-- EarthOffice gauge block at 36 -/
theorem t72_2 {M : Mem} {Q : AR → Mem → Prop} : Tq 72 2 [vJ, vJ, vJ] [] M Q ↔ (Q (.inl (some (vI (-3)))) M) :=
  Tq_blk (is := bk_72_2) (dd := de_72) rfl rfl
/-- EarthOffice gauge block at 39 -/
theorem t72_3 {x1 x2 : Int} {M : Mem} {Q : AR → Mem → Prop} : Tq 72 3 [vR 1 0, vI x1, vI x2] [] M Q ↔ (Tq 120 0 [vR 14 0, vI 71, vI x1, vI x2] [] M (kV fun M1 => Tq 374 0 [vR 8 0] [] M1 (kV fun M2 => Q (.inl (some (vI (w32 (M2 8 0 0 - 1))))) M2))) :=
  Tq_blk (is := bk_72_3) (dd := de_72) rfl rfl
/-- EarthOffice mean block at 0 -/
theorem t73_0 {x1 x2 : Int} {M : Mem} {Q : AR → Mem → Prop} : Tq 73 0 [vR 1 0, vI x1, vI x2, vJ] [] M Q ↔ (Tq 375 0 [vR 8 0, vI x1] [] M (kI fun v1 M1 => if v1 = 0 then Tq 73 1 [vJ, vJ, vJ, vJ] [] M1 Q else Tq 25 0 [vI x2, vI (-20000), vI 20000] [] M1 (kI fun v2 M2 => if ¬ v2 = 0 then Tq 73 2 [vR 1 0, vI x1, vI x2, vJ] [] M2 Q else Tq 73 1 [vJ, vJ, vJ, vJ] [] M2 Q))) :=
  Tq_blk (is := bk_73_0) (dd := de_73) rfl rfl
/-- EarthOffice mean block at 27 -/
theorem t73_1 {M : Mem} {Q : AR → Mem → Prop} : Tq 73 1 [vJ, vJ, vJ, vJ] [] M Q ↔ (Q (.inl (some (vI (-1)))) M) :=
  Tq_blk (is := bk_73_1) (dd := de_73) rfl rfl
/-- EarthOffice mean block at 29 -/
theorem t73_2 {x1 x2 : Int} {M : Mem} {Q : AR → Mem → Prop} : Tq 73 2 [vR 1 0, vI x1, vI x2, vJ] [] M Q ↔ (Tq 119 0 [vR 14 0, vI 9] [] M (kI fun v1 M1 => if ¬ v1 = 0 then Tq 73 3 [vR 1 0, vI x1, vI x2, vJ] [] M1 Q else Q (.inl (some (vI (-3)))) M1)) :=
  Tq_blk (is := bk_73_2) (dd := de_73) rfl rfl
/-- EarthOffice mean block at 44 -/
theorem t73_3 {x1 x2 : Int} {M : Mem} {Q : AR → Mem → Prop} : Tq 73 3 [vR 1 0, vI x1, vI x2, vJ] [] M Q ↔ (Tq 120 0 [vR 14 0, vI 78, vI x1, vI x2] [] M (kV fun M1 => ((0 : Int) ≤ x1 ∧ x1 < 4) ∧ ((0 : Int) ≤ x1 ∧ x1 < 4) ∧ bd (mset M1 8001 0 x1 x2) fun M2 => Q (.inl (some (vI (M1 8001 0 x1)))) M2)) :=
  Tq_blk (is := bk_73_3) (dd := de_73) rfl rfl
/-- EarthOffice constituent block at 0 -/
theorem t74_0 {x1 x2 x3 x4 : Int} {M : Mem} {Q : AR → Mem → Prop} : Tq 74 0 [vR 1 0, vI x1, vI x2, vI x3, vI x4] [] M Q ↔ (Tq 375 0 [vR 8 0, vI x1] [] M (kI fun v1 M1 => if v1 = 0 then Tq 74 1 [vJ, vJ, vJ, vJ, vJ] [] M1 Q else Tq 25 0 [vI x2, vI 0, vI 65535] [] M1 (kI fun v2 M2 => if v2 = 0 then Tq 74 1 [vJ, vJ, vJ, vJ, vJ] [] M2 Q else Tq 25 0 [vI x3, vI 0, vI 9999] [] M2 (kI fun v3 M3 => if v3 = 0 then Tq 74 1 [vJ, vJ, vJ, vJ, vJ] [] M3 Q else Tq 25 0 [vI x4, vI 0, vI 65535] [] M3 (kI fun v4 M4 => if ¬ v4 = 0 then Tq 74 2 [vR 1 0, vI x1, vI x2, vI x3, vI x4] [] M4 Q else Tq 74 1 [vJ, vJ, vJ, vJ, vJ] [] M4 Q))))) :=
  Tq_blk (is := bk_74_0) (dd := de_74) rfl rfl
/-- EarthOffice constituent block at 48 -/
theorem t74_1 {M : Mem} {Q : AR → Mem → Prop} : Tq 74 1 [vJ, vJ, vJ, vJ, vJ] [] M Q ↔ (Q (.inl (some (vI (-1)))) M) :=
  Tq_blk (is := bk_74_1) (dd := de_74) rfl rfl
/-- EarthOffice constituent block at 50 -/
theorem t74_2 {x1 x2 x3 x4 : Int} {M : Mem} {Q : AR → Mem → Prop} : Tq 74 2 [vR 1 0, vI x1, vI x2, vI x3, vI x4] [] M Q ↔ (((0 : Int) ≤ x1 ∧ x1 < 4) ∧ if M 8002 0 x1 = (6 : Int) then Tq 74 3 [vJ, vJ, vJ, vJ, vJ] [] M Q else Tq 119 0 [vR 14 0, vI 17] [] M (kI fun v1 M1 => if ¬ v1 = 0 then Tq 74 4 [vR 1 0, vI x1, vI x2, vI x3, vI x4] [] M1 Q else Tq 74 3 [vJ, vJ, vJ, vJ, vJ] [] M1 Q)) :=
  Tq_blk (is := bk_74_2) (dd := de_74) rfl rfl
/-- EarthOffice constituent block at 79 -/
theorem t74_3 {M : Mem} {Q : AR → Mem → Prop} : Tq 74 3 [vJ, vJ, vJ, vJ, vJ] [] M Q ↔ (Q (.inl (some (vI (-3)))) M) :=
  Tq_blk (is := bk_74_3) (dd := de_74) rfl rfl
/-- EarthOffice constituent block at 82 -/
theorem t74_4 {x1 x2 x3 x4 : Int} {M : Mem} {Q : AR → Mem → Prop} : Tq 74 4 [vR 1 0, vI x1, vI x2, vI x3, vI x4] [] M Q ↔ (Tq 121 0 [vR 14 0, vI 17, vI 67] [] M (kV fun M1 => Tq 111 0 [vR 13 1, vI x1] [] M1 (kV fun M2 => Tq 111 0 [vR 13 1, vI x2] [] M2 (kV fun M3 => Tq 111 0 [vR 13 1, vI x3] [] M3 (kV fun M4 => Tq 111 0 [vR 13 1, vI x4] [] M4 (kV fun M5 => Tq 122 0 [vR 14 0] [] M5 (kV fun M6 => Tq 376 0 [vR 8 0, vI x1, vI x2, vI x3, vI x4, vJ] [] M6 (kV fun M7 => ((0 : Int) ≤ x1 ∧ x1 < 4) ∧ Q (.inl (some (vI (w32 (M7 8002 0 x1 - 1))))) M7)))))))) :=
  Tq_blk (is := bk_74_4) (dd := de_74) rfl rfl
/-- EarthOffice level block at 0 -/
theorem t75_0 {x1 x2 x3 : Int} {M : Mem} {Q : AR → Mem → Prop} : Tq 75 0 [vR 1 0, vI x1, vI x2, vI x3] [] M Q ↔ (Tq 375 0 [vR 8 0, vI x1] [] M (kI fun v1 M1 => if v1 = 0 then Tq 75 1 [vJ, vJ, vJ, vJ] [] M1 Q else Tq 34 0 [vI x2] [] M1 (kI fun v2 M2 => if v2 = 0 then Tq 75 1 [vJ, vJ, vJ, vJ] [] M2 Q else Tq 25 0 [vI x3, vI (-20000), vI 20000] [] M2 (kI fun v3 M3 => if ¬ v3 = 0 then Tq 75 2 [vR 1 0, vI x1, vI x2, vI x3] [] M3 Q else Tq 75 1 [vJ, vJ, vJ, vJ] [] M3 Q)))) :=
  Tq_blk (is := bk_75_0) (dd := de_75) rfl rfl
/-- EarthOffice level block at 34 -/
theorem t75_1 {M : Mem} {Q : AR → Mem → Prop} : Tq 75 1 [vJ, vJ, vJ, vJ] [] M Q ↔ (Q (.inl (some (vI (-1)))) M) :=
  Tq_blk (is := bk_75_1) (dd := de_75) rfl rfl
/-- EarthOffice level block at 36 -/
theorem t75_2 {x1 x2 x3 : Int} {M : Mem} {Q : AR → Mem → Prop} : Tq 75 2 [vR 1 0, vI x1, vI x2, vI x3] [] M Q ↔ (((0 : Int) ≤ w32 (w32 (x1 * 4096) + x2) ∧ w32 (w32 (x1 * 4096) + x2) < 16384) ∧ if M 8007 0 (w32 (w32 (x1 * 4096) + x2)) = 0 then Tq 75 3 [vR 1 0, vI x1, vI x2, vI x3] [] M Q else Q (.inl (some (vI (-2)))) M) :=
  Tq_blk (is := bk_75_2) (dd := de_75) rfl rfl
/-- EarthOffice level block at 60 -/
theorem t75_3 {x1 x2 x3 : Int} {M : Mem} {Q : AR → Mem → Prop} : Tq 75 3 [vR 1 0, vI x1, vI x2, vI x3] [] M Q ↔ (Tq 119 0 [vR 14 0, vI 13] [] M (kI fun v1 M1 => if ¬ v1 = 0 then Tq 75 4 [vR 1 0, vI x1, vI x2, vI x3] [] M1 Q else Q (.inl (some (vI (-3)))) M1)) :=
  Tq_blk (is := bk_75_3) (dd := de_75) rfl rfl
/-- EarthOffice level block at 75 -/
theorem t75_4 {x1 x2 x3 : Int} {M : Mem} {Q : AR → Mem → Prop} : Tq 75 4 [vR 1 0, vI x1, vI x2, vI x3] [] M Q ↔ (Tq 123 0 [vR 14 0, vI 76, vI x1, vI x2, vI x3] [] M (kV fun M1 => Tq 377 0 [vR 8 0, vI x1, vI x2, vI x3, vI (M1 4 0 10)] [] M1 (kV fun M2 => Q (.inl (some (vI 0))) M2))) :=
  Tq_blk (is := bk_75_4) (dd := de_75) rfl rfl
/-- EarthOffice tide block at 0 -/
theorem t76_0 {x1 x2 : Int} {M : Mem} {Q : AR → Mem → Prop} : Tq 76 0 [vR 1 0, vI x1, vI x2] [] M Q ↔ (Tq 375 0 [vR 8 0, vI x1] [] M (kI fun v1 M1 => if v1 = 0 then Tq 76 1 [vJ, vJ, vJ] [] M1 Q else Tq 34 0 [vI x2] [] M1 (kI fun v2 M2 => if v2 = 0 then Tq 76 1 [vJ, vJ, vJ] [] M2 Q else Tq 378 0 [vR 8 0, vI x1, vI x2, vJ, vJ, vJ] [] M2 (kI fun v3 M3 => Tq 76 2 [vJ, vJ, vJ] [vI v3] M3 Q)))) :=
  Tq_blk (is := bk_76_0) (dd := de_76) rfl rfl
/-- EarthOffice tide block at 36 -/
theorem t76_1 {M : Mem} {Q : AR → Mem → Prop} : Tq 76 1 [vJ, vJ, vJ] [] M Q ↔ (Tq 76 2 [vJ, vJ, vJ] [vI (-99999999)] M Q) :=
  Tq_blk (is := bk_76_1) (dd := de_76) rfl rfl
/-- EarthOffice tide block at 39 -/
theorem t76_2 {s0 : Int} {M : Mem} {Q : AR → Mem → Prop} : Tq 76 2 [vJ, vJ, vJ] [vI s0] M Q ↔ (Q (.inl (some (vI s0))) M) :=
  Tq_blk (is := bk_76_2) (dd := de_76) rfl rfl
/-- EarthOffice sine block at 0 -/
theorem t77_0 {x0 : Int} {M : Mem} {Q : AR → Mem → Prop} : Tq 77 0 [vI x0, vJ, vJ, vJ, vJ, vJ] [] M Q ↔ ((¬ w64 (5368709120 - (w64 (4 * (w64 ((and32 x0 32767) * (w64 (32768 - (and32 x0 32767)))))))) = 0) ∧ if ¬ and32 x0 32768 = 0 then Tq 77 1 [vJ, vJ, vJ, vJ, vJ, vI (w32 (div64 (w64 (524272 * (w64 ((and32 x0 32767) * (w64 (32768 - (and32 x0 32767))))))) (w64 (5368709120 - (w64 (4 * (w64 ((and32 x0 32767) * (w64 (32768 - (and32 x0 32767)))))))))))] [] M Q else Tq 77 2 [vJ, vJ, vJ, vJ, vJ, vJ] [vI (w32 (div64 (w64 (524272 * (w64 ((and32 x0 32767) * (w64 (32768 - (and32 x0 32767))))))) (w64 (5368709120 - (w64 (4 * (w64 ((and32 x0 32767) * (w64 (32768 - (and32 x0 32767)))))))))))] M Q) :=
  Tq_blk (is := bk_77_0) (dd := de_77) rfl rfl
/-- EarthOffice sine block at 45 -/
theorem t77_1 {x5 : Int} {M : Mem} {Q : AR → Mem → Prop} : Tq 77 1 [vJ, vJ, vJ, vJ, vJ, vI x5] [] M Q ↔ (Tq 77 2 [vJ, vJ, vJ, vJ, vJ, vJ] [vI (w32 (-x5))] M Q) :=
  Tq_blk (is := bk_77_1) (dd := de_77) rfl rfl
/-- EarthOffice sine block at 48 -/
theorem t77_2 {s0 : Int} {M : Mem} {Q : AR → Mem → Prop} : Tq 77 2 [vJ, vJ, vJ, vJ, vJ, vJ] [vI s0] M Q ↔ (Q (.inl (some (vI s0))) M) :=
  Tq_blk (is := bk_77_2) (dd := de_77) rfl rfl
/-- EarthOffice surge block at 0 -/
theorem t78_0 {x1 x2 : Int} {M : Mem} {Q : AR → Mem → Prop} : Tq 78 0 [vR 1 0, vI x1, vI x2, vJ] [] M Q ↔ (Tq 375 0 [vR 8 0, vI x1] [] M (kI fun v1 M1 => if v1 = 0 then Tq 78 1 [vR 1 0, vI x1, vI x2, vJ] [] M1 Q else Tq 34 0 [vI x2] [] M1 (kI fun v2 M2 => if v2 = 0 then Tq 78 1 [vR 1 0, vI x1, vI x2, vJ] [] M2 Q else ((0 : Int) ≤ w32 (w32 (x1 * 4096) + x2) ∧ w32 (w32 (x1 * 4096) + x2) < 16384) ∧ if M2 8007 0 (w32 (w32 (x1 * 4096) + x2)) = 0 then Tq 78 1 [vR 1 0, vI x1, vI x2, vJ] [] M2 Q else Tq 78 2 [vR 1 0, vI x1, vI x2, vJ] [vI 1] M2 Q))) :=
  Tq_blk (is := bk_78_0) (dd := de_78) rfl rfl
/-- EarthOffice surge block at 46 -/
theorem t78_1 {x1 x2 : Int} {M : Mem} {Q : AR → Mem → Prop} : Tq 78 1 [vR 1 0, vI x1, vI x2, vJ] [] M Q ↔ (Tq 78 2 [vR 1 0, vI x1, vI x2, vJ] [vI 0] M Q) :=
  Tq_blk (is := bk_78_1) (dd := de_78) rfl rfl
/-- EarthOffice surge block at 47 -/
theorem t78_2 {x1 x2 s0 : Int} {M : Mem} {Q : AR → Mem → Prop} : Tq 78 2 [vR 1 0, vI x1, vI x2, vJ] [vI s0] M Q ↔ (if s0 = 0 then Tq 78 3 [vJ, vJ, vJ, vJ] [] M Q else ((0 : Int) ≤ w32 (w32 (x1 * 4096) + x2) ∧ w32 (w32 (x1 * 4096) + x2) < 16384) ∧ Tq 378 0 [vR 8 0, vI x1, vI x2, vJ, vJ, vJ] [] M (kI fun v1 M1 => Tq 78 4 [vJ, vJ, vJ, vJ] [vI (w32 (M 8006 0 (w32 (w32 (x1 * 4096) + x2)) - v1))] M1 Q)) :=
  Tq_blk (is := bk_78_2) (dd := de_78) rfl rfl
/-- EarthOffice surge block at 86 -/
theorem t78_3 {M : Mem} {Q : AR → Mem → Prop} : Tq 78 3 [vJ, vJ, vJ, vJ] [] M Q ↔ (Tq 78 4 [vJ, vJ, vJ, vJ] [vI (-99999999)] M Q) :=
  Tq_blk (is := bk_78_3) (dd := de_78) rfl rfl
/-- EarthOffice surge block at 89 -/
theorem t78_4 {s0 : Int} {M : Mem} {Q : AR → Mem → Prop} : Tq 78 4 [vJ, vJ, vJ, vJ] [vI s0] M Q ↔ (Q (.inl (some (vI s0))) M) :=
  Tq_blk (is := bk_78_4) (dd := de_78) rfl rfl
/-- EarthOffice high block at 0 -/
theorem t79_0 {x1 x2 x3 x4 x5 : Int} {M : Mem} {Q : AR → Mem → Prop} : Tq 79 0 [vR 1 0, vI x1, vI x2, vI x3, vI x4, vI x5] [] M Q ↔ (Tq 375 0 [vR 8 0, vI x1] [] M (kI fun v1 M1 => if v1 = 0 then Tq 79 1 [vJ, vJ, vJ, vJ, vJ, vJ] [] M1 Q else Tq 34 0 [vI x2] [] M1 (kI fun v2 M2 => if v2 = 0 then Tq 79 1 [vJ, vJ, vJ, vJ, vJ, vJ] [] M2 Q else Tq 34 0 [vI x3] [] M2 (kI fun v3 M3 => if v3 = 0 then Tq 79 1 [vJ, vJ, vJ, vJ, vJ, vJ] [] M3 Q else if x2 ≤ x3 then Tq 79 2 [vR 1 0, vI x1, vI x2, vI x3, vI x4, vI x5] [] M3 Q else Tq 79 1 [vJ, vJ, vJ, vJ, vJ, vJ] [] M3 Q)))) :=
  Tq_blk (is := bk_79_0) (dd := de_79) rfl rfl
/-- EarthOffice high block at 33 -/
theorem t79_1 {M : Mem} {Q : AR → Mem → Prop} : Tq 79 1 [vJ, vJ, vJ, vJ, vJ, vJ] [] M Q ↔ (Q (.inl (some (vI (-1)))) M) :=
  Tq_blk (is := bk_79_1) (dd := de_79) rfl rfl
/-- EarthOffice high block at 35 -/
theorem t79_2 {x1 x2 x3 x4 x5 : Int} {M : Mem} {Q : AR → Mem → Prop} : Tq 79 2 [vR 1 0, vI x1, vI x2, vI x3, vI x4, vI x5] [] M Q ↔ (Tq 379 0 [vR 8 0, vI x1, vI x2, vI x3, vI x4, vI x5, vJ, vJ, vJ, vJ, vJ, vJ] [] M (kI fun v1 M1 => Q (.inl (some (vI v1))) M1)) :=
  Tq_blk (is := bk_79_2) (dd := de_79) rfl rfl
/-- EarthOffice sea block at 0 -/
theorem t80_0 {x1 x2 : Int} {M : Mem} {Q : AR → Mem → Prop} : Tq 80 0 [vR 1 0, vI x1, vI x2] [] M Q ↔ (Tq 25 0 [vI x1, vI 1, vI 32] [] M (kI fun v1 M1 => if v1 = 0 then Tq 80 1 [vJ, vJ, vJ] [] M1 Q else Tq 25 0 [vI x2, vI 1, vI 32] [] M1 (kI fun v2 M2 => if ¬ v2 = 0 then Tq 80 2 [vR 1 0, vI x1, vI x2] [] M2 Q else Tq 80 1 [vJ, vJ, vJ] [] M2 Q))) :=
  Tq_blk (is := bk_80_0) (dd := de_80) rfl rfl
/-- EarthOffice sea block at 20 -/
theorem t80_1 {M : Mem} {Q : AR → Mem → Prop} : Tq 80 1 [vJ, vJ, vJ] [] M Q ↔ (Q (.inl (some (vI (-1)))) M) :=
  Tq_blk (is := bk_80_1) (dd := de_80) rfl rfl
/-- EarthOffice sea block at 22 -/
theorem t80_2 {x1 x2 : Int} {M : Mem} {Q : AR → Mem → Prop} : Tq 80 2 [vR 1 0, vI x1, vI x2] [] M Q ↔ (Tq 168 0 [vR 21 0, vI x1, vI x2] [] M (kV fun M1 => Q (.inl (some (vI (w32 (x1 * x2))))) M1)) :=
  Tq_blk (is := bk_80_2) (dd := de_80) rfl rfl
/-- EarthOffice depth block at 0 -/
theorem t81_0 {x1 x2 x3 : Int} {M : Mem} {Q : AR → Mem → Prop} : Tq 81 0 [vR 1 0, vI x1, vI x2, vI x3] [] M Q ↔ (Tq 169 0 [vR 21 0, vI x1, vI x2] [] M (kI fun v1 M1 => if v1 = 0 then Tq 81 1 [vJ, vJ, vJ, vJ] [] M1 Q else Tq 25 0 [vI x3, vI (-5000), vI 9999] [] M1 (kI fun v2 M2 => if ¬ v2 = 0 then Tq 81 2 [vR 1 0, vI x1, vI x2, vI x3] [] M2 Q else Tq 81 1 [vJ, vJ, vJ, vJ] [] M2 Q))) :=
  Tq_blk (is := bk_81_0) (dd := de_81) rfl rfl
/-- EarthOffice depth block at 25 -/
theorem t81_1 {M : Mem} {Q : AR → Mem → Prop} : Tq 81 1 [vJ, vJ, vJ, vJ] [] M Q ↔ (Q (.inl (some (vI (-1)))) M) :=
  Tq_blk (is := bk_81_1) (dd := de_81) rfl rfl
/-- EarthOffice depth block at 27 -/
theorem t81_2 {x1 x2 x3 : Int} {M : Mem} {Q : AR → Mem → Prop} : Tq 81 2 [vR 1 0, vI x1, vI x2, vI x3] [] M Q ↔ (Tq 170 0 [vR 21 0, vI x1, vI x2] [] M (kI fun v1 M1 => Tq 171 0 [vR 21 0, vI v1, vI x3] [] M1 (kV fun M2 => Q (.inl (some (vI 0))) M2))) :=
  Tq_blk (is := bk_81_2) (dd := de_81) rfl rfl
/-- EarthOffice uplift block at 0 -/
theorem t82_0 {x1 x2 x3 x4 x5 : Int} {M : Mem} {Q : AR → Mem → Prop} : Tq 82 0 [vR 1 0, vI x1, vI x2, vI x3, vI x4, vI x5] [] M Q ↔ (Tq 169 0 [vR 21 0, vI x1, vI x2] [] M (kI fun v1 M1 => if v1 = 0 then Tq 82 1 [vJ, vJ, vJ, vJ, vJ, vJ] [] M1 Q else Tq 169 0 [vR 21 0, vI x3, vI x4] [] M1 (kI fun v2 M2 => if v2 = 0 then Tq 82 1 [vJ, vJ, vJ, vJ, vJ, vJ] [] M2 Q else if x3 < x1 then Tq 82 1 [vJ, vJ, vJ, vJ, vJ, vJ] [] M2 Q else if x4 < x2 then Tq 82 1 [vJ, vJ, vJ, vJ, vJ, vJ] [] M2 Q else Tq 25 0 [vI x5, vI (-5000), vI 5000] [] M2 (kI fun v3 M3 => if ¬ v3 = 0 then Tq 82 2 [vR 1 0, vI x1, vI x2, vI x3, vI x4, vI x5] [] M3 Q else Tq 82 1 [vJ, vJ, vJ, vJ, vJ, vJ] [] M3 Q)))) :=
  Tq_blk (is := bk_82_0) (dd := de_82) rfl rfl
/-- EarthOffice uplift block at 50 -/
theorem t82_1 {M : Mem} {Q : AR → Mem → Prop} : Tq 82 1 [vJ, vJ, vJ, vJ, vJ, vJ] [] M Q ↔ (Q (.inl (some (vI (-1)))) M) :=
  Tq_blk (is := bk_82_1) (dd := de_82) rfl rfl
/-- EarthOffice uplift block at 52 -/
theorem t82_2 {x1 x2 x3 x4 x5 : Int} {M : Mem} {Q : AR → Mem → Prop} : Tq 82 2 [vR 1 0, vI x1, vI x2, vI x3, vI x4, vI x5] [] M Q ↔ (Tq 173 0 [vR 21 0, vI x1, vI x2, vI x3, vI x4, vI x5, vJ, vJ, vJ, vJ] [] M (kI fun v1 M1 => Q (.inl (some (vI v1))) M1)) :=
  Tq_blk (is := bk_82_2) (dd := de_82) rfl rfl
/-- EarthOffice steps block at 0 -/
theorem t83_0 {x1 : Int} {M : Mem} {Q : AR → Mem → Prop} : Tq 83 0 [vR 1 0, vI x1] [] M Q ↔ (Tq 25 0 [vI x1, vI 1, vI 100] [] M (kI fun v1 M1 => if v1 = 0 then Tq 83 1 [vJ, vJ] [] M1 Q else Tq 174 0 [vR 21 0, vI x1, vJ] [] M1 (kI fun v2 M2 => Tq 83 2 [vJ, vJ] [vI v2] M2 Q))) :=
  Tq_blk (is := bk_83_0) (dd := de_83) rfl rfl
/-- EarthOffice steps block at 21 -/
theorem t83_1 {M : Mem} {Q : AR → Mem → Prop} : Tq 83 1 [vJ, vJ] [] M Q ↔ (Tq 83 2 [vJ, vJ] [vI (-1)] M Q) :=
  Tq_blk (is := bk_83_1) (dd := de_83) rfl rfl
/-- EarthOffice steps block at 22 -/
theorem t83_2 {s0 : Int} {M : Mem} {Q : AR → Mem → Prop} : Tq 83 2 [vJ, vJ] [vI s0] M Q ↔ (Q (.inl (some (vI s0))) M) :=
  Tq_blk (is := bk_83_2) (dd := de_83) rfl rfl
/-- EarthOffice water block at 0 -/
theorem t84_0 {x1 x2 x3 : Int} {M : Mem} {Q : AR → Mem → Prop} : Tq 84 0 [vR 1 0, vI x1, vI x2, vI x3] [] M Q ↔ (Tq 169 0 [vR 21 0, vI x1, vI x2] [] M (kI fun v1 M1 => if v1 = 0 then Tq 84 1 [vJ, vJ, vJ, vJ] [] M1 Q else Tq 25 0 [vI x3, vI 0, vI 5] [] M1 (kI fun v2 M2 => if v2 = 0 then Tq 84 1 [vJ, vJ, vJ, vJ] [] M2 Q else Tq 170 0 [vR 21 0, vI x1, vI x2] [] M2 (kI fun v3 M3 => Tq 178 0 [vR 21 0, vI v3, vI x3] [] M3 (kI fun v4 M4 => Tq 84 2 [vJ, vJ, vJ, vJ] [vI v4] M4 Q))))) :=
  Tq_blk (is := bk_84_0) (dd := de_84) rfl rfl
/-- EarthOffice water block at 41 -/
theorem t84_1 {M : Mem} {Q : AR → Mem → Prop} : Tq 84 1 [vJ, vJ, vJ, vJ] [] M Q ↔ (Tq 84 2 [vJ, vJ, vJ, vJ] [vI (-99999999)] M Q) :=
  Tq_blk (is := bk_84_1) (dd := de_84) rfl rfl
/-- EarthOffice water block at 44 -/
theorem t84_2 {s0 : Int} {M : Mem} {Q : AR → Mem → Prop} : Tq 84 2 [vJ, vJ, vJ, vJ] [vI s0] M Q ↔ (Q (.inl (some (vI s0))) M) :=
  Tq_blk (is := bk_84_2) (dd := de_84) rfl rfl
/-- EarthOffice total block at 0 -/
theorem t85_0 {M : Mem} {Q : AR → Mem → Prop} : Tq 85 0 [vR 1 0] [] M Q ↔ (Tq 179 0 [vR 21 0, vJ, vJ] [] M (kI fun v1 M1 => Q (.inl (some (vI v1))) M1)) :=
  Tq_blk (is := bk_85_0) (dd := de_85) rfl rfl
/-- EarthOffice path block at 0 -/
theorem t86_0 {x1 x2 x3 x4 : Int} {M : Mem} {Q : AR → Mem → Prop} : Tq 86 0 [vR 1 0, vI x1, vI x2, vI x3, vI x4] [] M Q ↔ (Tq 169 0 [vR 21 0, vI x1, vI x2] [] M (kI fun v1 M1 => if v1 = 0 then Tq 86 1 [vJ, vJ, vJ, vJ, vJ] [] M1 Q else Tq 169 0 [vR 21 0, vI x3, vI x4] [] M1 (kI fun v2 M2 => if v2 = 0 then Tq 86 1 [vJ, vJ, vJ, vJ, vJ] [] M2 Q else Tq 170 0 [vR 21 0, vI x1, vI x2] [] M2 (kI fun v3 M3 => Tq 170 0 [vR 21 0, vI x3, vI x4] [] M3 (kI fun v4 M4 => Tq 180 0 [vR 21 0, vI v3, vI v4, vJ, vJ, vJ] [] M4 (kI fun v5 M5 => Tq 86 2 [vJ, vJ, vJ, vJ, vJ] [vI v5] M5 Q)))))) :=
  Tq_blk (is := bk_86_0) (dd := de_86) rfl rfl
/-- EarthOffice path block at 54 -/
theorem t86_1 {M : Mem} {Q : AR → Mem → Prop} : Tq 86 1 [vJ, vJ, vJ, vJ, vJ] [] M Q ↔ (Tq 86 2 [vJ, vJ, vJ, vJ, vJ] [vI (-1)] M Q) :=
  Tq_blk (is := bk_86_1) (dd := de_86) rfl rfl
/-- EarthOffice path block at 55 -/
theorem t86_2 {s0 : Int} {M : Mem} {Q : AR → Mem → Prop} : Tq 86 2 [vJ, vJ, vJ, vJ, vJ] [vI s0] M Q ↔ (Q (.inl (some (vI s0))) M) :=
  Tq_blk (is := bk_86_2) (dd := de_86) rfl rfl
/-- EarthOffice rule block at 0 -/
theorem t87_0 {M : Mem} {Q : AR → Mem → Prop} : Tq 87 0 [vR 1 0, vJ, vJ, vJ] [] M Q ↔ (Tq 394 0 [vR 10 0, vR 13 0, vJ] [] M (kI fun v1 M1 => bd (mset M1 13 0 1 0) fun M2 => if v1 = (-99999999) then Tq 87 1 [vR 1 0, vJ, vI (M1 13 0 1), vJ] [] M2 Q else Q (.inl (some (vI (w32 ((-10) - v1))))) M2)) :=
  Tq_blk (is := bk_87_0) (dd := de_87) rfl rfl
/-- EarthOffice rule block at 43 -/
theorem t87_1 {x2 : Int} {M : Mem} {Q : AR → Mem → Prop} : Tq 87 1 [vR 1 0, vJ, vI x2, vJ] [] M Q ↔ (if M 4 0 5 = (8 : Int) then Tq 87 2 [vJ, vJ, vJ, vJ] [] M Q else Tq 119 0 [vR 14 0, vI (w32 (1 + x2))] [] M (kI fun v1 M1 => if ¬ v1 = 0 then Tq 87 3 [vR 1 0, vJ, vI x2, vJ] [] M1 Q else Tq 87 2 [vJ, vJ, vJ, vJ] [] M1 Q)) :=
  Tq_blk (is := bk_87_1) (dd := de_87) rfl rfl
/-- EarthOffice rule block at 68 -/
theorem t87_2 {M : Mem} {Q : AR → Mem → Prop} : Tq 87 2 [vJ, vJ, vJ, vJ] [] M Q ↔ (Q (.inl (some (vI (-3)))) M) :=
  Tq_blk (is := bk_87_2) (dd := de_87) rfl rfl
/-- EarthOffice rule block at 71 -/
theorem t87_3 {x2 : Int} {M : Mem} {Q : AR → Mem → Prop} : Tq 87 3 [vR 1 0, vJ, vI x2, vJ] [] M Q ↔ (Tq 121 0 [vR 14 0, vI (w32 (1 + x2)), vI 84] [] M (kV fun M1 => Tq 87 4 [vR 1 0, vJ, vI x2, vI 0] [] M1 Q)) :=
  Tq_blk (is := bk_87_3) (dd := de_87) rfl rfl
/-- EarthOffice rule block at 85 -/
theorem t87_4 {x2 x3 : Int} {M : Mem} {Q : AR → Mem → Prop} : Tq 87 4 [vR 1 0, vJ, vI x2, vI x3] [] M Q ↔ (if x2 ≤ x3 then Tq 87 5 [vR 1 0, vJ, vJ, vJ] [] M Q else ((0 : Int) ≤ x3 ∧ x3 < bLen 0) ∧ Tq 113 0 [vR 13 1, vI (M 13000 0 x3)] [] M (kV fun M1 => Tq 87 4 [vR 1 0, vJ, vI x2, vI (w32 (x3 + 1))] [] M1 Q)) :=
  Tq_blk (is := bk_87_4) (dd := de_87) rfl rfl
/-- EarthOffice rule block at 115 -/
theorem t87_5 {M : Mem} {Q : AR → Mem → Prop} : Tq 87 5 [vR 1 0, vJ, vJ, vJ] [] M Q ↔ (Tq 122 0 [vR 14 0] [] M (kV fun M1 => Tq 341 0 [vR 4 0] [] M1 (kV fun M2 => Q (.inl (some (vI (w32 (M2 4 0 5 - 1))))) M2))) :=
  Tq_blk (is := bk_87_5) (dd := de_87) rfl rfl
/-- EarthOffice ruled block at 0 -/
theorem t88_0 {x1 x2 : Int} {M : Mem} {Q : AR → Mem → Prop} : Tq 88 0 [vR 1 0, vI x1, vI x2, vJ] [] M Q ↔ (Tq 25 0 [vI x1, vI 0, vI (w32 (M 4 0 5 - 1))] [] M (kI fun v1 M1 => if v1 = 0 then Tq 88 1 [vJ, vJ, vJ, vJ] [] M1 Q else Tq 25 0 [vI x2, vI 0, vI 2] [] M1 (kI fun v2 M2 => if ¬ v2 = 0 then Tq 88 2 [vR 1 0, vI x1, vI x2, vJ] [] M2 Q else Tq 88 1 [vJ, vJ, vJ, vJ] [] M2 Q))) :=
  Tq_blk (is := bk_88_0) (dd := de_88) rfl rfl
/-- EarthOffice ruled block at 26 -/
theorem t88_1 {M : Mem} {Q : AR → Mem → Prop} : Tq 88 1 [vJ, vJ, vJ, vJ] [] M Q ↔ (Q (.inl (some (vI (-1)))) M) :=
  Tq_blk (is := bk_88_1) (dd := de_88) rfl rfl
/-- EarthOffice ruled block at 28 -/
theorem t88_2 {x1 x2 : Int} {M : Mem} {Q : AR → Mem → Prop} : Tq 88 2 [vR 1 0, vI x1, vI x2, vJ] [] M Q ↔ (((0 : Int) ≤ x1 ∧ x1 < 8) ∧ if ¬ x2 = 0 then Tq 88 4 [vJ, vJ, vI x2, vR 12 x1] [] M Q else if M 12 x1 6 = 0 then Tq 88 3 [vJ, vJ, vJ, vJ] [] M Q else Tq 88 6 [vJ, vJ, vJ, vJ] [vI 1] M Q) :=
  Tq_blk (is := bk_88_2) (dd := de_88) rfl rfl
/-- EarthOffice ruled block at 53 -/
theorem t88_3 {M : Mem} {Q : AR → Mem → Prop} : Tq 88 3 [vJ, vJ, vJ, vJ] [] M Q ↔ (Tq 88 6 [vJ, vJ, vJ, vJ] [vI 0] M Q) :=
  Tq_blk (is := bk_88_3) (dd := de_88) rfl rfl
/-- EarthOffice ruled block at 57 -/
theorem t88_4 {x2 x3 : Int} {M : Mem} {Q : AR → Mem → Prop} : Tq 88 4 [vJ, vJ, vI x2, vR 12 x3] [] M Q ↔ (if ¬ x2 = (1 : Int) then Tq 88 5 [vJ, vJ, vJ, vR 12 x3] [] M Q else Tq 88 6 [vJ, vJ, vJ, vJ] [vI (M 12 x3 7)] M Q) :=
  Tq_blk (is := bk_88_4) (dd := de_88) rfl rfl
/-- EarthOffice ruled block at 69 -/
theorem t88_5 {x3 : Int} {M : Mem} {Q : AR → Mem → Prop} : Tq 88 5 [vJ, vJ, vJ, vR 12 x3] [] M Q ↔ (Tq 88 6 [vJ, vJ, vJ, vJ] [vI (M 12 x3 4)] M Q) :=
  Tq_blk (is := bk_88_5) (dd := de_88) rfl rfl
/-- EarthOffice ruled block at 73 -/
theorem t88_6 {s0 : Int} {M : Mem} {Q : AR → Mem → Prop} : Tq 88 6 [vJ, vJ, vJ, vJ] [vI s0] M Q ↔ (Q (.inl (some (vI s0))) M) :=
  Tq_blk (is := bk_88_6) (dd := de_88) rfl rfl
/-- EarthOffice user block at 0 -/
theorem t89_0 {x1 x2 x3 x4 x5 : Int} {M : Mem} {Q : AR → Mem → Prop} : Tq 89 0 [vR 1 0, vI x1, vI x2, vI x3, vI x4, vI x5] [] M Q ↔ (Tq 28 0 [vI x1, vI x2] [] M (kI fun v1 M1 => if v1 = 0 then Tq 89 1 [vJ, vJ, vJ, vJ, vJ, vJ] [] M1 Q else Tq 28 0 [vI x3, vI x4] [] M1 (kI fun v2 M2 => if v2 = 0 then Tq 89 1 [vJ, vJ, vJ, vJ, vJ, vJ] [] M2 Q else if x3 < x1 then Tq 89 1 [vJ, vJ, vJ, vJ, vJ, vJ] [] M2 Q else if x2 ≤ x4 then Tq 89 2 [vR 1 0, vI x1, vI x2, vI x3, vI x4, vI x5] [] M2 Q else Tq 89 1 [vJ, vJ, vJ, vJ, vJ, vJ] [] M2 Q))) :=
  Tq_blk (is := bk_89_0) (dd := de_89) rfl rfl
/-- EarthOffice user block at 28 -/
theorem t89_1 {M : Mem} {Q : AR → Mem → Prop} : Tq 89 1 [vJ, vJ, vJ, vJ, vJ, vJ] [] M Q ↔ (Q (.inl (some (vI (-1)))) M) :=
  Tq_blk (is := bk_89_1) (dd := de_89) rfl rfl
/-- EarthOffice user block at 30 -/
theorem t89_2 {x1 x2 x3 x4 x5 : Int} {M : Mem} {Q : AR → Mem → Prop} : Tq 89 2 [vR 1 0, vI x1, vI x2, vI x3, vI x4, vI x5] [] M Q ↔ (if M 9 0 0 = (8 : Int) then Tq 89 3 [vJ, vJ, vJ, vJ, vJ, vJ] [] M Q else Tq 119 0 [vR 14 0, vI 21] [] M (kI fun v1 M1 => if ¬ v1 = 0 then Tq 89 4 [vR 1 0, vI x1, vI x2, vI x3, vI x4, vI x5] [] M1 Q else Tq 89 3 [vJ, vJ, vJ, vJ, vJ, vJ] [] M1 Q)) :=
  Tq_blk (is := bk_89_2) (dd := de_89) rfl rfl
/-- EarthOffice user block at 57 -/
theorem t89_3 {M : Mem} {Q : AR → Mem → Prop} : Tq 89 3 [vJ, vJ, vJ, vJ, vJ, vJ] [] M Q ↔ (Q (.inl (some (vI (-3)))) M) :=
  Tq_blk (is := bk_89_3) (dd := de_89) rfl rfl
/-- EarthOffice user block at 60 -/
theorem t89_4 {x1 x2 x3 x4 x5 : Int} {M : Mem} {Q : AR → Mem → Prop} : Tq 89 4 [vR 1 0, vI x1, vI x2, vI x3, vI x4, vI x5] [] M Q ↔ (Tq 121 0 [vR 14 0, vI 21, vI 85] [] M (kV fun M1 => Tq 111 0 [vR 13 1, vI x1] [] M1 (kV fun M2 => Tq 111 0 [vR 13 1, vI x2] [] M2 (kV fun M3 => Tq 111 0 [vR 13 1, vI x3] [] M3 (kV fun M4 => Tq 111 0 [vR 13 1, vI x4] [] M4 (kV fun M5 => if x5 = 0 then Tq 89 5 [vR 1 0, vI x1, vI x2, vI x3, vI x4, vI x5] [vR 13 1] M5 Q else Tq 89 6 [vR 1 0, vI x1, vI x2, vI x3, vI x4, vI x5] [vI 1, vR 13 1] M5 Q)))))) :=
  Tq_blk (is := bk_89_4) (dd := de_89) rfl rfl
/-- EarthOffice user block at 132 -/
theorem t89_5 {x1 x2 x3 x4 x5 s0 : Int} {M : Mem} {Q : AR → Mem → Prop} : Tq 89 5 [vR 1 0, vI x1, vI x2, vI x3, vI x4, vI x5] [vR 13 s0] M Q ↔ (Tq 89 6 [vR 1 0, vI x1, vI x2, vI x3, vI x4, vI x5] [vI 0, vR 13 s0] M Q) :=
  Tq_blk (is := bk_89_5) (dd := de_89) rfl rfl
/-- EarthOffice user block at 133 -/
theorem t89_6 {x1 x2 x3 x4 x5 s0 s1 : Int} {M : Mem} {Q : AR → Mem → Prop} : Tq 89 6 [vR 1 0, vI x1, vI x2, vI x3, vI x4, vI x5] [vI s0, vR 13 s1] M Q ↔ (Tq 111 0 [vR 13 s1, vI s0] [] M (kV fun M1 => Tq 122 0 [vR 14 0] [] M1 (kV fun M2 => Tq 384 0 [vR 9 0, vI x1, vI x2, vI x3, vI x4, vI x5] [] M2 (kV fun M3 => Q (.inl (some (vI (w32 (M3 9 0 0 - 1))))) M3)))) :=
  Tq_blk (is := bk_89_6) (dd := de_89) rfl rfl
/-- EarthOffice deaf block at 0 -/
theorem t90_0 {x1 x2 : Int} {M : Mem} {Q : AR → Mem → Prop} : Tq 90 0 [vR 1 0, vI x1, vI x2, vJ] [] M Q ↔ (Tq 91 0 [vR 1 0, vI x1] [] M (kI fun v1 M1 => if ¬ v1 = 0 then Tq 90 1 [vR 1 0, vI x1, vI x2, vJ] [] M1 Q else Q (.inl (some (vI (-1)))) M1)) :=
  Tq_blk (is := bk_90_0) (dd := de_90) rfl rfl
/-- EarthOffice deaf block at 10 -/
theorem t90_1 {x1 x2 : Int} {M : Mem} {Q : AR → Mem → Prop} : Tq 90 1 [vR 1 0, vI x1, vI x2, vJ] [] M Q ↔ (Tq 119 0 [vR 14 0, vI 9] [] M (kI fun v1 M1 => if ¬ v1 = 0 then Tq 90 2 [vR 1 0, vI x1, vI x2, vJ] [] M1 Q else Q (.inl (some (vI (-3)))) M1)) :=
  Tq_blk (is := bk_90_1) (dd := de_90) rfl rfl
/-- EarthOffice deaf block at 25 -/
theorem t90_2 {x1 x2 : Int} {M : Mem} {Q : AR → Mem → Prop} : Tq 90 2 [vR 1 0, vI x1, vI x2, vJ] [] M Q ↔ (if x2 = 0 then Tq 90 3 [vR 1 0, vI x1, vI x2, vJ] [vI x1, vI 70, vR 14 0] M Q else Tq 90 4 [vR 1 0, vI x1, vI x2, vJ] [vI 1, vI x1, vI 70, vR 14 0] M Q) :=
  Tq_blk (is := bk_90_2) (dd := de_90) rfl rfl
/-- EarthOffice deaf block at 40 -/
theorem t90_3 {x1 x2 s0 s1 : Int} {M : Mem} {Q : AR → Mem → Prop} : Tq 90 3 [vR 1 0, vI x1, vI x2, vJ] [vI s0, vI s1, vR 14 0] M Q ↔ (Tq 90 4 [vR 1 0, vI x1, vI x2, vJ] [vI 0, vI s0, vI s1, vR 14 0] M Q) :=
  Tq_blk (is := bk_90_3) (dd := de_90) rfl rfl
/-- EarthOffice deaf block at 41 -/
theorem t90_4 {x1 x2 s0 s1 s2 : Int} {M : Mem} {Q : AR → Mem → Prop} : Tq 90 4 [vR 1 0, vI x1, vI x2, vJ] [vI s0, vI s1, vI s2, vR 14 0] M Q ↔ (Tq 120 0 [vR 14 0, vI s2, vI s1, vI s0] [] M (kV fun M1 => ((0 : Int) ≤ x1 ∧ x1 < 8) ∧ if M1 9003 0 x1 = 0 then Tq 90 5 [vR 1 0, vI x1, vI x2, vJ] [] M1 Q else Tq 90 6 [vR 1 0, vI x1, vI x2, vJ] [vI 1] M1 Q)) :=
  Tq_blk (is := bk_90_4) (dd := de_90) rfl rfl
/-- EarthOffice deaf block at 63 -/
theorem t90_5 {x1 x2 : Int} {M : Mem} {Q : AR → Mem → Prop} : Tq 90 5 [vR 1 0, vI x1, vI x2, vJ] [] M Q ↔ (Tq 90 6 [vR 1 0, vI x1, vI x2, vJ] [vI 0] M Q) :=
  Tq_blk (is := bk_90_5) (dd := de_90) rfl rfl
/-- EarthOffice deaf block at 64 -/
theorem t90_6 {x1 x2 s0 : Int} {M : Mem} {Q : AR → Mem → Prop} : Tq 90 6 [vR 1 0, vI x1, vI x2, vJ] [vI s0] M Q ↔ (((0 : Int) ≤ x1 ∧ x1 < 8) ∧ bd (mset M 9003 0 x1 (nb x2)) fun M1 => Q (.inl (some (vI s0))) M1) :=
  Tq_blk (is := bk_90_6) (dd := de_90) rfl rfl
/-- EarthOffice isUser block at 0 -/
theorem t91_0 {x1 : Int} {M : Mem} {Q : AR → Mem → Prop} : Tq 91 0 [vR 1 0, vI x1] [] M Q ↔ (Tq 25 0 [vI x1, vI 0, vI (w32 (M 9 0 0 - 1))] [] M (kI fun v1 M1 => Q (.inl (some (vI (nb v1)))) M1)) :=
  Tq_blk (is := bk_91_0) (dd := de_91) rfl rfl
/-- EarthOffice drill block at 0 -/
theorem t92_0 {x1 : Int} {M : Mem} {Q : AR → Mem → Prop} : Tq 92 0 [vR 1 0, vI x1, vJ] [] M Q ↔ (Tq 119 0 [vR 14 0, vI 5] [] M (kI fun v1 M1 => if ¬ v1 = 0 then Tq 92 1 [vR 1 0, vI x1, vJ] [] M1 Q else Q (.inl (some (vI (-3)))) M1)) :=
  Tq_blk (is := bk_92_0) (dd := de_92) rfl rfl
/-- EarthOffice drill block at 14 -/
theorem t92_1 {x1 : Int} {M : Mem} {Q : AR → Mem → Prop} : Tq 92 1 [vR 1 0, vI x1, vJ] [] M Q ↔ (if x1 = 0 then Tq 92 2 [vR 1 0, vI x1, vJ] [vI 88, vR 14 0] M Q else Tq 92 3 [vR 1 0, vI x1, vJ] [vI 1, vI 88, vR 14 0] M Q) :=
  Tq_blk (is := bk_92_1) (dd := de_92) rfl rfl
/-- EarthOffice drill block at 28 -/
theorem t92_2 {x1 s0 : Int} {M : Mem} {Q : AR → Mem → Prop} : Tq 92 2 [vR 1 0, vI x1, vJ] [vI s0, vR 14 0] M Q ↔ (Tq 92 3 [vR 1 0, vI x1, vJ] [vI 0, vI s0, vR 14 0] M Q) :=
  Tq_blk (is := bk_92_2) (dd := de_92) rfl rfl
/-- EarthOffice drill block at 29 -/
theorem t92_3 {x1 s0 s1 : Int} {M : Mem} {Q : AR → Mem → Prop} : Tq 92 3 [vR 1 0, vI x1, vJ] [vI s0, vI s1, vR 14 0] M Q ↔ (Tq 124 0 [vR 14 0, vI s1, vI s0] [] M (kV fun M1 => if M1 9 0 5 = 0 then Tq 92 4 [vR 1 0, vI x1, vJ] [] M1 Q else Tq 92 5 [vR 1 0, vI x1, vJ] [vI 1] M1 Q)) :=
  Tq_blk (is := bk_92_3) (dd := de_92) rfl rfl
/-- EarthOffice drill block at 49 -/
theorem t92_4 {x1 : Int} {M : Mem} {Q : AR → Mem → Prop} : Tq 92 4 [vR 1 0, vI x1, vJ] [] M Q ↔ (Tq 92 5 [vR 1 0, vI x1, vJ] [vI 0] M Q) :=
  Tq_blk (is := bk_92_4) (dd := de_92) rfl rfl
/-- EarthOffice drill block at 50 -/
theorem t92_5 {x1 s0 : Int} {M : Mem} {Q : AR → Mem → Prop} : Tq 92 5 [vR 1 0, vI x1, vJ] [vI s0] M Q ↔ ((x1 = 0 ∨ x1 = 1) ∧ bd (mset M 9 0 5 x1) fun M1 => Q (.inl (some (vI s0))) M1) :=
  Tq_blk (is := bk_92_5) (dd := de_92) rfl rfl
/-- EarthOffice tick block at 0 -/
theorem t93_0 {x1 : Int} {M : Mem} {Q : AR → Mem → Prop} : Tq 93 0 [vR 1 0, vI x1, vJ] [] M Q ↔ (Tq 25 0 [vI x1, vI 1, vI 64] [] M (kI fun v1 M1 => if ¬ v1 = 0 then Tq 93 1 [vR 1 0, vI x1, vJ] [] M1 Q else Q (.inl (some (vI (-1)))) M1)) :=
  Tq_blk (is := bk_93_0) (dd := de_93) rfl rfl
/-- EarthOffice tick block at 12 -/
theorem t93_1 {x1 : Int} {M : Mem} {Q : AR → Mem → Prop} : Tq 93 1 [vR 1 0, vI x1, vJ] [] M Q ↔ (if (4096 : Int) ≤ w32 (M 4 0 10 + x1) then Tq 93 2 [vJ, vJ, vJ] [] M Q else Tq 119 0 [vR 14 0, vI 5] [] M (kI fun v1 M1 => if ¬ v1 = 0 then Tq 93 3 [vR 1 0, vI x1, vJ] [] M1 Q else Tq 93 2 [vJ, vJ, vJ] [] M1 Q)) :=
  Tq_blk (is := bk_93_1) (dd := de_93) rfl rfl
/-- EarthOffice tick block at 38 -/
theorem t93_2 {M : Mem} {Q : AR → Mem → Prop} : Tq 93 2 [vJ, vJ, vJ] [] M Q ↔ (Q (.inl (some (vI (-3)))) M) :=
  Tq_blk (is := bk_93_2) (dd := de_93) rfl rfl
/-- EarthOffice tick block at 41 -/
theorem t93_3 {x1 : Int} {M : Mem} {Q : AR → Mem → Prop} : Tq 93 3 [vR 1 0, vI x1, vJ] [] M Q ↔ (Tq 124 0 [vR 14 0, vI 73, vI x1] [] M (kV fun M1 => Tq 93 4 [vR 1 0, vI x1, vI 0] [] M1 Q)) :=
  Tq_blk (is := bk_93_3) (dd := de_93) rfl rfl
/-- EarthOffice tick block at 53 -/
theorem t93_4 {x1 x2 : Int} {M : Mem} {Q : AR → Mem → Prop} : Tq 93 4 [vR 1 0, vI x1, vI x2] [] M Q ↔ (if x1 ≤ x2 then Tq 93 5 [vR 1 0, vJ, vJ] [] M Q else Tq 342 0 [vR 4 0, vJ, vJ, vJ] [] M (kV fun M1 => Tq 93 4 [vR 1 0, vI x1, vI (w32 (x2 + 1))] [] M1 Q)) :=
  Tq_blk (is := bk_93_4) (dd := de_93) rfl rfl
/-- EarthOffice tick block at 71 -/
theorem t93_5 {M : Mem} {Q : AR → Mem → Prop} : Tq 93 5 [vR 1 0, vJ, vJ] [] M Q ↔ (Q (.inl (some (vI (M 4 0 10)))) M) :=
  Tq_blk (is := bk_93_5) (dd := de_93) rfl rfl
/-- EarthOffice acknowledge block at 0 -/
theorem t94_0 {x1 : Int} {M : Mem} {Q : AR → Mem → Prop} : Tq 94 0 [vR 1 0, vI x1] [] M Q ↔ (Tq 95 0 [vR 1 0, vI x1] [] M (kI fun v1 M1 => if ¬ v1 = 0 then Tq 94 1 [vR 1 0, vI x1] [] M1 Q else Q (.inl (some (vI (-1)))) M1)) :=
  Tq_blk (is := bk_94_0) (dd := de_94) rfl rfl
/-- EarthOffice acknowledge block at 10 -/
theorem t94_1 {x1 : Int} {M : Mem} {Q : AR → Mem → Prop} : Tq 94 1 [vR 1 0, vI x1] [] M Q ↔ (((0 : Int) ≤ x1 ∧ x1 < 200) ∧ if M 9013 0 x1 = 0 then Tq 94 2 [vR 1 0, vI x1] [] M Q else Q (.inl (some (vI (-2)))) M) :=
  Tq_blk (is := bk_94_1) (dd := de_94) rfl rfl
/-- EarthOffice acknowledge block at 28 -/
theorem t94_2 {x1 : Int} {M : Mem} {Q : AR → Mem → Prop} : Tq 94 2 [vR 1 0, vI x1] [] M Q ↔ (Tq 119 0 [vR 14 0, vI 5] [] M (kI fun v1 M1 => if ¬ v1 = 0 then Tq 94 3 [vR 1 0, vI x1] [] M1 Q else Q (.inl (some (vI (-3)))) M1)) :=
  Tq_blk (is := bk_94_2) (dd := de_94) rfl rfl
/-- EarthOffice acknowledge block at 42 -/
theorem t94_3 {x1 : Int} {M : Mem} {Q : AR → Mem → Prop} : Tq 94 3 [vR 1 0, vI x1] [] M Q ↔ (Tq 124 0 [vR 14 0, vI 75, vI x1] [] M (kV fun M1 => ((0 : Int) ≤ x1 ∧ x1 < 200) ∧ bd (mset M1 9013 0 x1 1) fun M2 => Q (.inl (some (vI 0))) M2)) :=
  Tq_blk (is := bk_94_3) (dd := de_94) rfl rfl
/-- EarthOffice isMessage block at 0 -/
theorem t95_0 {x1 : Int} {M : Mem} {Q : AR → Mem → Prop} : Tq 95 0 [vR 1 0, vI x1] [] M Q ↔ (Tq 25 0 [vI x1, vI 0, vI (w32 (M 9 0 6 - 1))] [] M (kI fun v1 M1 => Q (.inl (some (vI (nb v1)))) M1)) :=
  Tq_blk (is := bk_95_0) (dd := de_95) rfl rfl
/-- EarthOffice message block at 0 -/
theorem t96_0 {x1 x2 : Int} {M : Mem} {Q : AR → Mem → Prop} : Tq 96 0 [vR 1 0, vI x1, vI x2] [] M Q ↔ (Tq 95 0 [vR 1 0, vI x1] [] M (kI fun v1 M1 => if v1 = 0 then Tq 96 1 [vJ, vJ, vJ] [] M1 Q else Tq 25 0 [vI x2, vI 0, vI 7] [] M1 (kI fun v2 M2 => if v2 = 0 then Tq 96 1 [vJ, vJ, vJ] [] M2 Q else Tq 392 0 [vR 9 0, vI x1, vI x2] [] M2 (kI fun v3 M3 => Tq 96 2 [vJ, vJ, vJ] [vI v3] M3 Q)))) :=
  Tq_blk (is := bk_96_0) (dd := de_96) rfl rfl
/-- EarthOffice message block at 33 -/
theorem t96_1 {M : Mem} {Q : AR → Mem → Prop} : Tq 96 1 [vJ, vJ, vJ] [] M Q ↔ (Tq 96 2 [vJ, vJ, vJ] [vI (-99999999)] M Q) :=
  Tq_blk (is := bk_96_1) (dd := de_96) rfl rfl
/-- EarthOffice message block at 36 -/
theorem t96_2 {s0 : Int} {M : Mem} {Q : AR → Mem → Prop} : Tq 96 2 [vJ, vJ, vJ] [vI s0] M Q ↔ (Q (.inl (some (vI s0))) M) :=
  Tq_blk (is := bk_96_2) (dd := de_96) rfl rfl
/-- EarthOffice text block at 0 -/
theorem t97_0 {x1 x2 : Int} {M : Mem} {Q : AR → Mem → Prop} : Tq 97 0 [vR 1 0, vI x1, vI x2] [] M Q ↔ (Tq 95 0 [vR 1 0, vI x1] [] M (kI fun v1 M1 => if v1 = 0 then Tq 97 1 [vJ, vJ, vJ] [] M1 Q else ((0 : Int) ≤ x1 ∧ x1 < 200) ∧ Tq 25 0 [vI x2, vI 0, vI (w32 (M1 9014 0 x1 - 1))] [] M1 (kI fun v2 M2 => if v2 = 0 then Tq 97 1 [vJ, vJ, vJ] [] M2 Q else ((0 : Int) ≤ w32 (w32 (x1 * 80) + x2) ∧ w32 (w32 (x1 * 80) + x2) < 16000) ∧ Tq 97 2 [vJ, vJ, vJ] [vI (M2 9015 0 (w32 (w32 (x1 * 80) + x2)))] M2 Q))) :=
  Tq_blk (is := bk_97_0) (dd := de_97) rfl rfl
/-- EarthOffice text block at 50 -/
theorem t97_1 {M : Mem} {Q : AR → Mem → Prop} : Tq 97 1 [vJ, vJ, vJ] [] M Q ↔ (Tq 97 2 [vJ, vJ, vJ] [vI (-99999999)] M Q) :=
  Tq_blk (is := bk_97_1) (dd := de_97) rfl rfl
/-- EarthOffice text block at 53 -/
theorem t97_2 {s0 : Int} {M : Mem} {Q : AR → Mem → Prop} : Tq 97 2 [vJ, vJ, vJ] [vI s0] M Q ↔ (Q (.inl (some (vI s0))) M) :=
  Tq_blk (is := bk_97_2) (dd := de_97) rfl rfl
/-- EarthOffice received block at 0 -/
theorem t98_0 {x1 : Int} {M : Mem} {Q : AR → Mem → Prop} : Tq 98 0 [vR 1 0, vI x1] [] M Q ↔ (Tq 91 0 [vR 1 0, vI x1] [] M (kI fun v1 M1 => if v1 = 0 then Tq 98 1 [vJ, vJ] [] M1 Q else ((0 : Int) ≤ x1 ∧ x1 < 8) ∧ Tq 98 2 [vJ, vJ] [vI (M1 9004 0 x1)] M1 Q)) :=
  Tq_blk (is := bk_98_0) (dd := de_98) rfl rfl
/-- EarthOffice received block at 23 -/
theorem t98_1 {M : Mem} {Q : AR → Mem → Prop} : Tq 98 1 [vJ, vJ] [] M Q ↔ (Tq 98 2 [vJ, vJ] [vI (-1)] M Q) :=
  Tq_blk (is := bk_98_1) (dd := de_98) rfl rfl
/-- EarthOffice received block at 24 -/
theorem t98_2 {s0 : Int} {M : Mem} {Q : AR → Mem → Prop} : Tq 98 2 [vJ, vJ] [vI s0] M Q ↔ (Q (.inl (some (vI s0))) M) :=
  Tq_blk (is := bk_98_2) (dd := de_98) rfl rfl
/-- EarthOffice crash block at 0 -/
theorem t99_0 {x1 : Int} {M : Mem} {Q : AR → Mem → Prop} : Tq 99 0 [vR 1 0, vI x1, vJ, vJ, vJ, vJ] [] M Q ↔ (if x1 < 0 then Tq 99 1 [vJ, vJ, vJ, vJ, vJ, vJ] [] M Q else if x1 ≤ M 14 0 2 then Tq 99 2 [vR 1 0, vI x1, vJ, vJ, vJ, vJ] [] M Q else Tq 99 1 [vJ, vJ, vJ, vJ, vJ, vJ] [] M Q) :=
  Tq_blk (is := bk_99_0) (dd := de_99) rfl rfl
/-- EarthOffice crash block at 15 -/
theorem t99_1 {M : Mem} {Q : AR → Mem → Prop} : Tq 99 1 [vJ, vJ, vJ, vJ, vJ, vJ] [] M Q ↔ (Q (.inl (some (vI (-1)))) M) :=
  Tq_blk (is := bk_99_1) (dd := de_99) rfl rfl
/-- EarthOffice crash block at 17 -/
theorem t99_2 {x1 : Int} {M : Mem} {Q : AR → Mem → Prop} : Tq 99 2 [vR 1 0, vI x1, vJ, vJ, vJ, vJ] [] M Q ↔ (if x1 ≤ 0 then Tq 99 3 [vR 1 0, vJ, vJ, vJ, vJ, vJ] [vI (M 14 0 1)] M Q else Tq 99 4 [vR 1 0, vJ, vJ, vJ, vJ, vJ] [vI 1, vI (M 14 0 1)] M Q) :=
  Tq_blk (is := bk_99_2) (dd := de_99) rfl rfl
/-- EarthOffice crash block at 32 -/
theorem t99_3 {s0 : Int} {M : Mem} {Q : AR → Mem → Prop} : Tq 99 3 [vR 1 0, vJ, vJ, vJ, vJ, vJ] [vI s0] M Q ↔ (Tq 99 4 [vR 1 0, vJ, vJ, vJ, vJ, vJ] [vI 0, vI s0] M Q) :=
  Tq_blk (is := bk_99_3) (dd := de_99) rfl rfl
/-- EarthOffice crash block at 33 -/
theorem t99_4 {s0 s1 : Int} {M : Mem} {Q : AR → Mem → Prop} : Tq 99 4 [vR 1 0, vJ, vJ, vJ, vJ, vJ] [vI s0, vI s1] M Q ↔ (Tq 348 0 [vR 4 0] [] M (kV fun M1 => bd (mset M1 13 0 1 0) fun M2 => bd (mset M2 18 0 0 0) fun M3 => Tq 168 0 [vR 21 0, vI 0, vI 0] [] M3 (kV fun M4 => Tq 99 5 [vR 1 0, vJ, vI (w32 (s1 - s0)), vI 0, vJ, vJ] [] M4 Q))) :=
  Tq_blk (is := bk_99_4) (dd := de_99) rfl rfl
/-- EarthOffice crash block at 69 -/
theorem t99_5 {x2 x3 : Int} {M : Mem} {Q : AR → Mem → Prop} : Tq 99 5 [vR 1 0, vJ, vI x2, vI x3, vJ, vJ] [] M Q ↔ (if (6 : Int) ≤ x3 then Tq 99 6 [vR 1 0, vJ, vI x2, vJ, vJ, vJ] [] M Q else ((0 : Int) ≤ x3 ∧ x3 < 6) ∧ bd (mset M 17 x3 2 0) fun M1 => Tq 99 5 [vR 1 0, vJ, vI x2, vI (w32 (x3 + 1)), vJ, vJ] [] M1 Q) :=
  Tq_blk (is := bk_99_5) (dd := de_99) rfl rfl
/-- EarthOffice crash block at 94 -/
theorem t99_6 {x2 : Int} {M : Mem} {Q : AR → Mem → Prop} : Tq 99 6 [vR 1 0, vJ, vI x2, vJ, vJ, vJ] [] M Q ↔ (Tq 99 7 [vR 1 0, vJ, vI x2, vI 0, vJ, vJ] [] M Q) :=
  Tq_blk (is := bk_99_6) (dd := de_99) rfl rfl
/-- EarthOffice crash block at 96 -/
theorem t99_7 {x2 x3 : Int} {M : Mem} {Q : AR → Mem → Prop} : Tq 99 7 [vR 1 0, vJ, vI x2, vI x3, vJ, vJ] [] M Q ↔ (if (4 : Int) ≤ x3 then Tq 99 8 [vR 1 0, vJ, vI x2, vJ, vJ, vJ] [] M Q else ((0 : Int) ≤ x3 ∧ x3 < 4) ∧ Tq 136 0 [vR 16 x3] [] M (kV fun M1 => Tq 99 7 [vR 1 0, vJ, vI x2, vI (w32 (x3 + 1)), vJ, vJ] [] M1 Q)) :=
  Tq_blk (is := bk_99_7) (dd := de_99) rfl rfl
/-- EarthOffice crash block at 120 -/
theorem t99_8 {x2 : Int} {M : Mem} {Q : AR → Mem → Prop} : Tq 99 8 [vR 1 0, vJ, vI x2, vJ, vJ, vJ] [] M Q ↔ (bd (mset M 14 0 2 0) fun M1 => bd (mset M1 14 0 1 x2) fun M2 => Tq 99 9 [vR 1 0, vJ, vI x2, vI 0, vI 0, vJ] [] M2 Q) :=
  Tq_blk (is := bk_99_8) (dd := de_99) rfl rfl
/-- EarthOffice crash block at 141 -/
theorem t99_9 {x2 x3 x4 : Int} {M : Mem} {Q : AR → Mem → Prop} : Tq 99 9 [vR 1 0, vJ, vI x2, vI x3, vI x4, vJ] [] M Q ↔ (if x2 ≤ x4 then Tq 99 10 [vR 1 0, vJ, vI x2, vI x3, vJ, vJ] [] M Q else Tq 116 0 [vR 13 1, vI x3] [] M (kI fun v1 M1 => Tq 349 0 [vR 4 0, vR 13 1, vI (w32 (x3 + 2)), vI v1, vJ, vJ, vJ, vJ] [] M1 (kV fun M2 => bd (mset M2 14 0 2 (w32 (v1 + 6))) fun M3 => Tq 99 9 [vR 1 0, vJ, vI x2, vI (w32 (x3 + M3 14 0 2)), vI (w32 (x4 + 1)), vJ] [] M3 Q))) :=
  Tq_blk (is := bk_99_9) (dd := de_99) rfl rfl
/-- EarthOffice crash block at 207 -/
theorem t99_10 {x2 x3 : Int} {M : Mem} {Q : AR → Mem → Prop} : Tq 99 10 [vR 1 0, vJ, vI x2, vI x3, vJ, vJ] [] M Q ↔ (bd (mset M 13 1 1 x3) fun M1 => Q (.inl (some (vI x2))) M1) :=
  Tq_blk (is := bk_99_10) (dd := de_99) rfl rfl
/-- EarthOffice logged block at 0 -/
theorem t100_0 {x1 : Int} {M : Mem} {Q : AR → Mem → Prop} : Tq 100 0 [vR 1 0, vI x1] [] M Q ↔ (Tq 114 0 [vR 13 1, vI x1] [] M (kI fun v1 M1 => Q (.inl (some (vI v1))) M1)) :=
  Tq_blk (is := bk_100_0) (dd := de_100) rfl rfl
/-- EarthOffice count block at 0 -/
theorem t101_0 {x1 : Int} {M : Mem} {Q : AR → Mem → Prop} : Tq 101 0 [vR 1 0, vI x1] [] M Q ↔ (if x1 = 0 then Tq 101 1 [vR 1 0, vJ] [] M Q else if x1 = 1 then Tq 101 2 [vR 1 0, vJ] [] M Q else if x1 = 2 then Tq 101 3 [vR 1 0, vJ] [] M Q else if x1 = 3 then Tq 101 4 [vR 1 0, vJ] [] M Q else if x1 = 4 then Tq 101 5 [vR 1 0, vJ] [] M Q else if x1 = 5 then Tq 101 6 [vR 1 0, vJ] [] M Q else if x1 = 6 then Tq 101 7 [vR 1 0, vJ] [] M Q else if x1 = 7 then Tq 101 8 [vR 1 0, vJ] [] M Q else Tq 101 9 [vR 1 0, vI x1] [] M Q) :=
  Tq_blk (is := bk_101_0) (dd := de_101) rfl rfl
/-- EarthOffice count block at 48 -/
theorem t101_1 {M : Mem} {Q : AR → Mem → Prop} : Tq 101 1 [vR 1 0, vJ] [] M Q ↔ (Q (.inl (some (vI (M 5 0 0)))) M) :=
  Tq_blk (is := bk_101_1) (dd := de_101) rfl rfl
/-- EarthOffice count block at 56 -/
theorem t101_2 {M : Mem} {Q : AR → Mem → Prop} : Tq 101 2 [vR 1 0, vJ] [] M Q ↔ (Q (.inl (some (vI (M 18 0 0)))) M) :=
  Tq_blk (is := bk_101_2) (dd := de_101) rfl rfl
/-- EarthOffice count block at 64 -/
theorem t101_3 {M : Mem} {Q : AR → Mem → Prop} : Tq 101 3 [vR 1 0, vJ] [] M Q ↔ (Q (.inl (some (vI (M 6 0 1)))) M) :=
  Tq_blk (is := bk_101_3) (dd := de_101) rfl rfl
/-- EarthOffice count block at 72 -/
theorem t101_4 {M : Mem} {Q : AR → Mem → Prop} : Tq 101 4 [vR 1 0, vJ] [] M Q ↔ (Q (.inl (some (vI (M 8 0 0)))) M) :=
  Tq_blk (is := bk_101_4) (dd := de_101) rfl rfl
/-- EarthOffice count block at 83 -/
theorem t101_5 {M : Mem} {Q : AR → Mem → Prop} : Tq 101 5 [vR 1 0, vJ] [] M Q ↔ (Q (.inl (some (vI (M 4 0 5)))) M) :=
  Tq_blk (is := bk_101_5) (dd := de_101) rfl rfl
/-- EarthOffice count block at 91 -/
theorem t101_6 {M : Mem} {Q : AR → Mem → Prop} : Tq 101 6 [vR 1 0, vJ] [] M Q ↔ (Q (.inl (some (vI (M 9 0 0)))) M) :=
  Tq_blk (is := bk_101_6) (dd := de_101) rfl rfl
/-- EarthOffice count block at 102 -/
theorem t101_7 {M : Mem} {Q : AR → Mem → Prop} : Tq 101 7 [vR 1 0, vJ] [] M Q ↔ (Q (.inl (some (vI (M 9 0 6)))) M) :=
  Tq_blk (is := bk_101_7) (dd := de_101) rfl rfl
/-- EarthOffice count block at 113 -/
theorem t101_8 {M : Mem} {Q : AR → Mem → Prop} : Tq 101 8 [vR 1 0, vJ] [] M Q ↔ (Q (.inl (some (vI (M 9 0 7)))) M) :=
  Tq_blk (is := bk_101_8) (dd := de_101) rfl rfl
/-- EarthOffice count block at 124 -/
theorem t101_9 {x1 : Int} {M : Mem} {Q : AR → Mem → Prop} : Tq 101 9 [vR 1 0, vI x1] [] M Q ↔ (Tq 102 0 [vR 1 0, vI x1] [] M (kI fun v1 M1 => Q (.inl (some (vI v1))) M1)) :=
  Tq_blk (is := bk_101_9) (dd := de_101) rfl rfl
/-- EarthOffice counted block at 0 -/
theorem t102_0 {x1 : Int} {M : Mem} {Q : AR → Mem → Prop} : Tq 102 0 [vR 1 0, vI x1] [] M Q ↔ (if x1 = 8 then Tq 102 1 [vR 1 0, vJ] [] M Q else if x1 = 9 then Tq 102 2 [vR 1 0, vJ] [] M Q else if x1 = 10 then Tq 102 3 [vR 1 0, vJ] [] M Q else if x1 = 11 then Tq 102 4 [vR 1 0, vJ] [] M Q else if x1 = 12 then Tq 102 5 [vR 1 0, vJ] [] M Q else Tq 102 6 [vJ, vJ] [] M Q) :=
  Tq_blk (is := bk_102_0) (dd := de_102) rfl rfl
/-- EarthOffice counted block at 36 -/
theorem t102_1 {M : Mem} {Q : AR → Mem → Prop} : Tq 102 1 [vR 1 0, vJ] [] M Q ↔ (Q (.inl (some (vI (M 14 0 1)))) M) :=
  Tq_blk (is := bk_102_1) (dd := de_102) rfl rfl
/-- EarthOffice counted block at 44 -/
theorem t102_2 {M : Mem} {Q : AR → Mem → Prop} : Tq 102 2 [vR 1 0, vJ] [] M Q ↔ (Q (.inl (some (vI (M 13 1 1)))) M) :=
  Tq_blk (is := bk_102_2) (dd := de_102) rfl rfl
/-- EarthOffice counted block at 55 -/
theorem t102_3 {M : Mem} {Q : AR → Mem → Prop} : Tq 102 3 [vR 1 0, vJ] [] M Q ↔ (Q (.inl (some (vI (M 4 0 10)))) M) :=
  Tq_blk (is := bk_102_3) (dd := de_102) rfl rfl
/-- EarthOffice counted block at 63 -/
theorem t102_4 {M : Mem} {Q : AR → Mem → Prop} : Tq 102 4 [vR 1 0, vJ] [] M Q ↔ (Tq 364 0 [vR 6 0, vJ, vJ] [] M (kI fun v1 M1 => Q (.inl (some (vI v1))) M1)) :=
  Tq_blk (is := bk_102_4) (dd := de_102) rfl rfl
/-- EarthOffice counted block at 71 -/
theorem t102_5 {M : Mem} {Q : AR → Mem → Prop} : Tq 102 5 [vR 1 0, vJ] [] M Q ↔ (Q (.inl (some (vI (M 13 0 1)))) M) :=
  Tq_blk (is := bk_102_5) (dd := de_102) rfl rfl
/-- EarthOffice counted block at 79 -/
theorem t102_6 {M : Mem} {Q : AR → Mem → Prop} : Tq 102 6 [vJ, vJ] [] M Q ↔ (Q (.inl (some (vI (-1)))) M) :=
  Tq_blk (is := bk_102_6) (dd := de_102) rfl rfl
/-- EarthOffice$Ways clear block at 0 -/
theorem t103_0 {M : Mem} {Q : AR → Mem → Prop} : Tq 103 0 [vR 2 0] [] M Q ↔ (bd (mset M 2 0 1 0) fun M1 => Q (.inl none) M1) :=
  Tq_blk (is := bk_103_0) (dd := de_103) rfl rfl
/-- EarthOffice$Ways add block at 0 -/
theorem t104_0 {x1 x2 : Int} {M : Mem} {Q : AR → Mem → Prop} : Tq 104 0 [vR 2 0, vI x1, vI x2, vJ, vJ, vJ] [] M Q ↔ (bd (mset M 2 0 1 (w32 (M 2 0 1 + 1))) fun M1 => Tq 104 1 [vR 2 0, vJ, vJ, vL (or64 (shl64 x1 16) x2), vJ, vI (M 2 0 1)] [] M1 Q) :=
  Tq_blk (is := bk_104_0) (dd := de_104) rfl rfl
/-- EarthOffice$Ways add block at 25 -/
theorem t104_1 {x3 x5 : Int} {M : Mem} {Q : AR → Mem → Prop} : Tq 104 1 [vR 2 0, vJ, vJ, vL x3, vJ, vI x5] [] M Q ↔ (if x5 ≤ 0 then Tq 104 2 [vR 2 0, vJ, vJ, vL x3, vJ, vI x5] [] M Q else (¬ (2 : Int) = 0) ∧ ((0 : Int) ≤ div32 (w32 (x5 - 1)) 2 ∧ div32 (w32 (x5 - 1)) 2 < 26000) ∧ if cmp64 (M 2000 0 (div32 (w32 (x5 - 1)) 2)) x3 ≤ 0 then Tq 104 2 [vR 2 0, vJ, vJ, vL x3, vJ, vI x5] [] M Q else (¬ (2 : Int) = 0) ∧ ((0 : Int) ≤ div32 (w32 (x5 - 1)) 2 ∧ div32 (w32 (x5 - 1)) 2 < 26000) ∧ ((0 : Int) ≤ x5 ∧ x5 < 26000) ∧ bd (mset M 2000 0 x5 (M 2000 0 (div32 (w32 (x5 - 1)) 2))) fun M1 => (¬ (2 : Int) = 0) ∧ Tq 104 1 [vR 2 0, vJ, vJ, vL x3, vJ, vI (div32 (w32 (x5 - 1)) 2)] [] M1 Q) :=
  Tq_blk (is := bk_104_1) (dd := de_104) rfl rfl
/-- EarthOffice$Ways add block at 75 -/
theorem t104_2 {x3 x5 : Int} {M : Mem} {Q : AR → Mem → Prop} : Tq 104 2 [vR 2 0, vJ, vJ, vL x3, vJ, vI x5] [] M Q ↔ (((0 : Int) ≤ x5 ∧ x5 < 26000) ∧ bd (mset M 2000 0 x5 x3) fun M1 => Q (.inl none) M1) :=
  Tq_blk (is := bk_104_2) (dd := de_104) rfl rfl
/-- EarthOffice$Ways least block at 0 -/
theorem t105_0 {M : Mem} {Q : AR → Mem → Prop} : Tq 105 0 [vR 2 0, vJ, vJ, vJ, vJ, vJ, vJ, vJ] [] M Q ↔ (((0 : Int) ≤ 0 ∧ (0 : Int) < 26000) ∧ bd (mset M 2 0 1 (w32 (M 2 0 1 - 1))) fun M1 => ((0 : Int) ≤ M1 2 0 1 ∧ M1 2 0 1 < 26000) ∧ Tq 105 1 [vR 2 0, vL (M 2000 0 0), vJ, vL (M1 2000 0 (M1 2 0 1)), vJ, vI 0, vI 1, vJ] [] M1 Q) :=
  Tq_blk (is := bk_105_0) (dd := de_105) rfl rfl
/-- EarthOffice$Ways least block at 33 -/
theorem t105_1 {x1 x3 x5 x6 : Int} {M : Mem} {Q : AR → Mem → Prop} : Tq 105 1 [vR 2 0, vL x1, vJ, vL x3, vJ, vI x5, vI x6, vJ] [] M Q ↔ (if x6 = 0 then Tq 105 7 [vR 2 0, vL x1, vJ, vL x3, vJ, vI x5, vJ, vJ] [] M Q else if M 2 0 1 ≤ w32 (w32 (2 * x5) + 1) then Tq 105 7 [vR 2 0, vL x1, vJ, vL x3, vJ, vI x5, vJ, vJ] [] M Q else if M 2 0 1 ≤ w32 (w32 (w32 (2 * x5) + 1) + 1) then Tq 105 2 [vR 2 0, vL x1, vJ, vL x3, vJ, vI x5, vJ, vJ] [vI (w32 (w32 (2 * x5) + 1))] M Q else ((0 : Int) ≤ w32 (w32 (w32 (2 * x5) + 1) + 1) ∧ w32 (w32 (w32 (2 * x5) + 1) + 1) < 26000) ∧ ((0 : Int) ≤ w32 (w32 (2 * x5) + 1) ∧ w32 (w32 (2 * x5) + 1) < 26000) ∧ if 0 ≤ cmp64 (M 2000 0 (w32 (w32 (w32 (2 * x5) + 1) + 1))) (M 2000 0 (w32 (w32 (2 * x5) + 1))) then Tq 105 2 [vR 2 0, vL x1, vJ, vL x3, vJ, vI x5, vJ, vJ] [vI (w32 (w32 (2 * x5) + 1))] M Q else Tq 105 3 [vR 2 0, vL x1, vJ, vL x3, vJ, vI x5, vJ, vJ] [vI 1, vI (w32 (w32 (2 * x5) + 1))] M Q) :=
  Tq_blk (is := bk_105_1) (dd := de_105) rfl rfl
/-- EarthOffice$Ways least block at 96 -/
theorem t105_2 {x1 x3 x5 s0 : Int} {M : Mem} {Q : AR → Mem → Prop} : Tq 105 2 [vR 2 0, vL x1, vJ, vL x3, vJ, vI x5, vJ, vJ] [vI s0] M Q ↔ (Tq 105 3 [vR 2 0, vL x1, vJ, vL x3, vJ, vI x5, vJ, vJ] [vI 0, vI s0] M Q) :=
  Tq_blk (is := bk_105_2) (dd := de_105) rfl rfl
/-- EarthOffice$Ways least block at 97 -/
theorem t105_3 {x1 x3 x5 s0 s1 : Int} {M : Mem} {Q : AR → Mem → Prop} : Tq 105 3 [vR 2 0, vL x1, vJ, vL x3, vJ, vI x5, vJ, vJ] [vI s0, vI s1] M Q ↔ (((0 : Int) ≤ w32 (s1 + s0) ∧ w32 (s1 + s0) < 26000) ∧ if 0 ≤ cmp64 (M 2000 0 (w32 (s1 + s0))) x3 then Tq 105 4 [vR 2 0, vL x1, vJ, vL x3, vJ, vI x5, vJ, vI (w32 (s1 + s0))] [] M Q else Tq 105 5 [vR 2 0, vL x1, vJ, vL x3, vJ, vI x5, vJ, vI (w32 (s1 + s0))] [vI 1] M Q) :=
  Tq_blk (is := bk_105_3) (dd := de_105) rfl rfl
/-- EarthOffice$Ways least block at 116 -/
theorem t105_4 {x1 x3 x5 x7 : Int} {M : Mem} {Q : AR → Mem → Prop} : Tq 105 4 [vR 2 0, vL x1, vJ, vL x3, vJ, vI x5, vJ, vI x7] [] M Q ↔ (Tq 105 5 [vR 2 0, vL x1, vJ, vL x3, vJ, vI x5, vJ, vI x7] [vI 0] M Q) :=
  Tq_blk (is := bk_105_4) (dd := de_105) rfl rfl
/-- EarthOffice$Ways least block at 117 -/
theorem t105_5 {x1 x3 x5 x7 s0 : Int} {M : Mem} {Q : AR → Mem → Prop} : Tq 105 5 [vR 2 0, vL x1, vJ, vL x3, vJ, vI x5, vJ, vI x7] [vI s0] M Q ↔ (if s0 = 0 then Tq 105 6 [vR 2 0, vL x1, vJ, vL x3, vJ, vI x5, vI s0, vJ] [] M Q else ((0 : Int) ≤ x7 ∧ x7 < 26000) ∧ ((0 : Int) ≤ x5 ∧ x5 < 26000) ∧ bd (mset M 2000 0 x5 (M 2000 0 x7)) fun M1 => Tq 105 6 [vR 2 0, vL x1, vJ, vL x3, vJ, vI x7, vI s0, vJ] [] M1 Q) :=
  Tq_blk (is := bk_105_5) (dd := de_105) rfl rfl
/-- EarthOffice$Ways least block at 142 -/
theorem t105_6 {x1 x3 x5 x6 : Int} {M : Mem} {Q : AR → Mem → Prop} : Tq 105 6 [vR 2 0, vL x1, vJ, vL x3, vJ, vI x5, vI x6, vJ] [] M Q ↔ (Tq 105 1 [vR 2 0, vL x1, vJ, vL x3, vJ, vI x5, vI x6, vJ] [] M Q) :=
  Tq_blk (is := bk_105_6) (dd := de_105) rfl rfl
/-- EarthOffice$Ways least block at 145 -/
theorem t105_7 {x1 x3 x5 : Int} {M : Mem} {Q : AR → Mem → Prop} : Tq 105 7 [vR 2 0, vL x1, vJ, vL x3, vJ, vI x5, vJ, vJ] [] M Q ↔ (((0 : Int) ≤ x5 ∧ x5 < 26000) ∧ bd (mset M 2000 0 x5 x3) fun M1 => Q (.inl (some (vL x1))) M1) :=
  Tq_blk (is := bk_105_7) (dd := de_105) rfl rfl
/-- EarthOffice$Ways length block at 0 -/
theorem t106_0 {x0 : Int} {M : Mem} {Q : AR → Mem → Prop} : Tq 106 0 [vI x0] [] M Q ↔ (if (4 : Int) ≤ x0 then Tq 106 1 [vI x0] [] M Q else Tq 106 3 [vJ] [vI 35] M Q) :=
  Tq_blk (is := bk_106_0) (dd := de_106) rfl rfl
/-- EarthOffice$Ways length block at 10 -/
theorem t106_1 {x0 : Int} {M : Mem} {Q : AR → Mem → Prop} : Tq 106 1 [vI x0] [] M Q ↔ (if (8 : Int) ≤ x0 then Tq 106 2 [vJ] [] M Q else Tq 106 3 [vJ] [vI 49] M Q) :=
  Tq_blk (is := bk_106_1) (dd := de_106) rfl rfl
/-- EarthOffice$Ways length block at 21 -/
theorem t106_2 {M : Mem} {Q : AR → Mem → Prop} : Tq 106 2 [vJ] [] M Q ↔ (Tq 106 3 [vJ] [vI 78] M Q) :=
  Tq_blk (is := bk_106_2) (dd := de_106) rfl rfl
/-- EarthOffice$Ways length block at 23 -/
theorem t106_3 {s0 : Int} {M : Mem} {Q : AR → Mem → Prop} : Tq 106 3 [vJ] [vI s0] M Q ↔ (Q (.inl (some (vI s0))) M) :=
  Tq_blk (is := bk_106_3) (dd := de_106) rfl rfl
/-- EarthOffice$Wrong at block at 0 -/
theorem t107_0 {x1 : Int} {M : Mem} {Q : AR → Mem → Prop} : Tq 107 0 [vR 11 0, vI x1] [] M Q ↔ (bd (mset M 11 0 6 x1) fun M1 => Q (.inl (some (vR 11 0))) M1) :=
  Tq_blk (is := bk_107_0) (dd := de_107) rfl rfl
/-- EarthOffice$Rule begin block at 0 -/
theorem t108_0 {x0 : Int} {M : Mem} {Q : AR → Mem → Prop} : Tq 108 0 [vR 12 x0] [] M Q ↔ (bd (mset M 12 x0 4 0) fun M1 => bd (mset M1 13 (7 + x0) 1 0) fun M2 => ((0 : Int) = 0 ∨ (0 : Int) = 1) ∧ bd (mset M2 12 x0 6 0) fun M3 => bd (mset M3 12 x0 7 0) fun M4 => Tq 3 0 [vR 12003 x0, vI 0, vJ, vJ] [] M4 (kV fun M5 => Q (.inl none) M5)) :=
  Tq_blk (is := bk_108_0) (dd := de_108) rfl rfl
/-- EarthOffice$Rule add block at 0 -/
theorem t109_0 {x0 x1 x2 x3 : Int} {M : Mem} {Q : AR → Mem → Prop} : Tq 109 0 [vR 12 x0, vI x1, vI x2, vI x3] [] M Q ↔ (((0 : Int) ≤ M 12 x0 4 ∧ M 12 x0 4 < 60) ∧ bd (mset M 12000 x0 (M 12 x0 4) x1) fun M1 => ((0 : Int) ≤ M1 12 x0 4 ∧ M1 12 x0 4 < 60) ∧ bd (mset M1 12001 x0 (M1 12 x0 4) x2) fun M2 => ((0 : Int) ≤ M2 12 x0 4 ∧ M2 12 x0 4 < 60) ∧ bd (mset M2 12002 x0 (M2 12 x0 4) x3) fun M3 => bd (mset M3 12 x0 4 (w32 (M3 12 x0 4 + 1))) fun M4 => Q (.inl none) M4) :=
  Tq_blk (is := bk_109_0) (dd := de_109) rfl rfl
/-- EarthOffice$Rule become block at 0 -/
theorem t110_0 {x0 x1 : Int} {M : Mem} {Q : AR → Mem → Prop} : Tq 110 0 [vR 12 x0, vR 12 x1, vJ] [] M Q ↔ (Tq 108 0 [vR 12 x0] [] M (kV fun M1 => Tq 110 1 [vR 12 x0, vR 12 x1, vI 0] [] M1 Q)) :=
  Tq_blk (is := bk_110_0) (dd := de_110) rfl rfl
/-- EarthOffice$Rule become block at 6 -/
theorem t110_1 {x0 x1 x2 : Int} {M : Mem} {Q : AR → Mem → Prop} : Tq 110 1 [vR 12 x0, vR 12 x1, vI x2] [] M Q ↔ (if M 12 x1 4 ≤ x2 then Tq 110 2 [vR 12 x0, vR 12 x1, vJ] [] M Q else ((0 : Int) ≤ x2 ∧ x2 < 60) ∧ ((0 : Int) ≤ x2 ∧ x2 < 60) ∧ ((0 : Int) ≤ x2 ∧ x2 < 60) ∧ Tq 109 0 [vR 12 x0, vI (M 12000 x1 x2), vI (M 12001 x1 x2), vI (M 12002 x1 x2)] [] M (kV fun M1 => Tq 110 1 [vR 12 x0, vR 12 x1, vI (w32 (x2 + 1))] [] M1 Q)) :=
  Tq_blk (is := bk_110_1) (dd := de_110) rfl rfl
/-- EarthOffice$Rule become block at 42 -/
theorem t110_2 {x0 x1 : Int} {M : Mem} {Q : AR → Mem → Prop} : Tq 110 2 [vR 12 x0, vR 12 x1, vJ] [] M Q ↔ (Tq 110 3 [vR 12 x0, vR 12 x1, vI 0] [] M Q) :=
  Tq_blk (is := bk_110_2) (dd := de_110) rfl rfl
/-- EarthOffice$Rule become block at 44 -/
theorem t110_3 {x0 x1 x2 : Int} {M : Mem} {Q : AR → Mem → Prop} : Tq 110 3 [vR 12 x0, vR 12 x1, vI x2] [] M Q ↔ (if M 13 (7 + x1) 1 ≤ x2 then Tq 110 4 [vJ, vJ, vJ] [] M Q else Tq 114 0 [vR 13 (7 + x1), vI x2] [] M (kI fun v1 M1 => Tq 113 0 [vR 13 (7 + x0), vI v1] [] M1 (kV fun M2 => Tq 110 3 [vR 12 x0, vR 12 x1, vI (w32 (x2 + 1))] [] M2 Q))) :=
  Tq_blk (is := bk_110_3) (dd := de_110) rfl rfl
/-- EarthOffice$Rule become block at 76 -/
theorem t110_4 {M : Mem} {Q : AR → Mem → Prop} : Tq 110 4 [vJ, vJ, vJ] [] M Q ↔ (Q (.inl none) M) :=
  Tq_blk (is := bk_110_4) (dd := de_110) rfl rfl
/-- EarthOffice$Bytes four block at 0 -/
theorem t111_0 {x0 x1 : Int} {M : Mem} {Q : AR → Mem → Prop} : Tq 111 0 [vR 13 x0, vI x1] [] M Q ↔ (Tq 112 0 [vR 13 x0, vI (shr32 x1 16)] [] M (kV fun M1 => Tq 112 0 [vR 13 x0, vI x1] [] M1 (kV fun M2 => Q (.inl none) M2))) :=
  Tq_blk (is := bk_111_0) (dd := de_111) rfl rfl
/-- EarthOffice$Bytes two block at 0 -/
theorem t112_0 {x0 x1 : Int} {M : Mem} {Q : AR → Mem → Prop} : Tq 112 0 [vR 13 x0, vI x1] [] M Q ↔ (Tq 113 0 [vR 13 x0, vI (shr32 x1 8)] [] M (kV fun M1 => Tq 113 0 [vR 13 x0, vI x1] [] M1 (kV fun M2 => Q (.inl none) M2))) :=
  Tq_blk (is := bk_112_0) (dd := de_112) rfl rfl
/-- EarthOffice$Bytes add block at 0 -/
theorem t113_0 {x0 x1 : Int} {M : Mem} {Q : AR → Mem → Prop} : Tq 113 0 [vR 13 x0, vI x1] [] M Q ↔ (((0 : Int) ≤ M 13 x0 1 ∧ M 13 x0 1 < bLen x0) ∧ bd (mset M 13000 x0 (M 13 x0 1) (w8 (w8 x1))) fun M1 => bd (mset M1 13 x0 1 (w32 (M1 13 x0 1 + 1))) fun M2 => Q (.inl none) M2) :=
  Tq_blk (is := bk_113_0) (dd := de_113) rfl rfl
/-- EarthOffice$Bytes at block at 0 -/
theorem t114_0 {x0 x1 : Int} {M : Mem} {Q : AR → Mem → Prop} : Tq 114 0 [vR 13 x0, vI x1] [] M Q ↔ (if x1 < 0 then Tq 114 1 [vJ, vJ] [] M Q else if M 13 x0 1 ≤ x1 then Tq 114 1 [vJ, vJ] [] M Q else ((0 : Int) ≤ x1 ∧ x1 < bLen x0) ∧ Tq 114 2 [vJ, vJ] [vI (and32 (M 13000 x0 x1) 255)] M Q) :=
  Tq_blk (is := bk_114_0) (dd := de_114) rfl rfl
/-- EarthOffice$Bytes at block at 25 -/
theorem t114_1 {M : Mem} {Q : AR → Mem → Prop} : Tq 114 1 [vJ, vJ] [] M Q ↔ (Tq 114 2 [vJ, vJ] [vI (-99999999)] M Q) :=
  Tq_blk (is := bk_114_1) (dd := de_114) rfl rfl
/-- EarthOffice$Bytes at block at 27 -/
theorem t114_2 {s0 : Int} {M : Mem} {Q : AR → Mem → Prop} : Tq 114 2 [vJ, vJ] [vI s0] M Q ↔ (Q (.inl (some (vI s0))) M) :=
  Tq_blk (is := bk_114_2) (dd := de_114) rfl rfl
/-- EarthOffice$Bytes sum block at 0 -/
theorem t115_0 {x0 x1 x2 : Int} {M : Mem} {Q : AR → Mem → Prop} : Tq 115 0 [vR 13 x0, vI x1, vI x2, vJ, vJ] [] M Q ↔ (Tq 115 1 [vR 13 x0, vJ, vI x2, vI 0, vI x1] [] M Q) :=
  Tq_blk (is := bk_115_0) (dd := de_115) rfl rfl
/-- EarthOffice$Bytes sum block at 5 -/
theorem t115_1 {x0 x2 x3 x4 : Int} {M : Mem} {Q : AR → Mem → Prop} : Tq 115 1 [vR 13 x0, vJ, vI x2, vI x3, vI x4] [] M Q ↔ (if x2 ≤ x4 then Tq 115 2 [vJ, vJ, vJ, vI x3, vJ] [] M Q else ((0 : Int) ≤ x4 ∧ x4 < bLen x0) ∧ Tq 5 0 [vI (xor32 x3 (and32 (M 13000 x0 x4) 255)), vI 17] [] M (kI fun v1 M1 => Tq 115 1 [vR 13 x0, vJ, vI x2, vI (w32 (v1 * 374761393)), vI (w32 (x4 + 1))] [] M1 Q)) :=
  Tq_blk (is := bk_115_1) (dd := de_115) rfl rfl
/-- EarthOffice$Bytes sum block at 39 -/
theorem t115_2 {x3 : Int} {M : Mem} {Q : AR → Mem → Prop} : Tq 115 2 [vJ, vJ, vJ, vI x3, vJ] [] M Q ↔ (Q (.inl (some (vI x3))) M) :=
  Tq_blk (is := bk_115_2) (dd := de_115) rfl rfl
/-- EarthOffice$Bytes twoAt block at 0 -/
theorem t116_0 {x0 x1 : Int} {M : Mem} {Q : AR → Mem → Prop} : Tq 116 0 [vR 13 x0, vI x1] [] M Q ↔ (((0 : Int) ≤ x1 ∧ x1 < bLen x0) ∧ ((0 : Int) ≤ w32 (x1 + 1) ∧ w32 (x1 + 1) < bLen x0) ∧ Q (.inl (some (vI (or32 (shl32 (and32 (M 13000 x0 x1) 255) 8) (and32 (M 13000 x0 (w32 (x1 + 1))) 255))))) M) :=
  Tq_blk (is := bk_116_0) (dd := de_116) rfl rfl
/-- EarthOffice$Bytes fourAt block at 0 -/
theorem t117_0 {x0 x1 : Int} {M : Mem} {Q : AR → Mem → Prop} : Tq 117 0 [vR 13 x0, vI x1] [] M Q ↔ (Tq 116 0 [vR 13 x0, vI x1] [] M (kI fun v1 M1 => Tq 116 0 [vR 13 x0, vI (w32 (x1 + 2))] [] M1 (kI fun v2 M2 => Q (.inl (some (vI (or32 (shl32 v1 16) v2)))) M2))) :=
  Tq_blk (is := bk_117_0) (dd := de_117) rfl rfl
/-- EarthOffice$Bytes drop block at 0 -/
theorem t118_0 {x0 x1 : Int} {M : Mem} {Q : AR → Mem → Prop} : Tq 118 0 [vR 13 x0, vI x1] [] M Q ↔ (((0 : Int) ≤ x1 ∧ (0 : Int) ≤ 0 ∧ (0 : Int) ≤ w32 (M 13 x0 1 - x1) ∧ x1 + (w32 (M 13 x0 1 - x1)) ≤ bLen x0 ∧ (0 : Int) + (w32 (M 13 x0 1 - x1)) ≤ bLen x0) ∧ bd (mcpy M 13000 x0 x1 13000 x0 0 (w32 (M 13 x0 1 - x1))) fun M1 => bd (mset M1 13 x0 1 (w32 (M1 13 x0 1 - x1))) fun M2 => Q (.inl none) M2) :=
  Tq_blk (is := bk_118_0) (dd := de_118) rfl rfl
/-- EarthOffice$Log hasRoom block at 0 -/
theorem t119_0 {x1 : Int} {M : Mem} {Q : AR → Mem → Prop} : Tq 119 0 [vR 14 0, vI x1] [] M Q ↔ (if (60000 : Int) < w32 (w32 (M 13 1 1 + x1) + 6) then Tq 119 1 [vJ, vJ] [] M Q else Tq 119 2 [vJ, vJ] [vI 1] M Q) :=
  Tq_blk (is := bk_119_0) (dd := de_119) rfl rfl
/-- EarthOffice$Log hasRoom block at 21 -/
theorem t119_1 {M : Mem} {Q : AR → Mem → Prop} : Tq 119 1 [vJ, vJ] [] M Q ↔ (Tq 119 2 [vJ, vJ] [vI 0] M Q) :=
  Tq_blk (is := bk_119_1) (dd := de_119) rfl rfl
/-- EarthOffice$Log hasRoom block at 22 -/
theorem t119_2 {s0 : Int} {M : Mem} {Q : AR → Mem → Prop} : Tq 119 2 [vJ, vJ] [vI s0] M Q ↔ (Q (.inl (some (vI (nb s0)))) M) :=
  Tq_blk (is := bk_119_2) (dd := de_119) rfl rfl
