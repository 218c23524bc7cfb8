/-! BLOCKS (printed by gen/lem.py) -/
set_option maxRecDepth 100000
/-- EarthOffice$Sea path block at 0 -/
theorem t180_0 {x1 x2 : Int} {M : Mem} {Q : AR → Mem → Prop} : Tq 180 0 [vR 21 0, vI x1, vI x2, vJ, vJ, vJ] [] M Q ↔ (((0 : Int) ≤ x1 ∧ x1 < 1024) ∧ if M 21003 0 x1 = 0 then Tq 180 1 [vJ, vJ, vJ, vJ, vJ, vJ] [] M Q else ((0 : Int) ≤ x2 ∧ x2 < 1024) ∧ if ¬ M 21003 0 x2 = 0 then Tq 180 2 [vR 21 0, vI x1, vI x2, vJ, vJ, vJ] [] M Q else Tq 180 1 [vJ, vJ, vJ, vJ, vJ, vJ] [] M Q) :=
  Tq_blk (is := bk_180_0) (dd := de_180) rfl rfl
/-- EarthOffice$Sea path block at 18 -/
theorem t180_1 {M : Mem} {Q : AR → Mem → Prop} : Tq 180 1 [vJ, vJ, vJ, vJ, vJ, vJ] [] M Q ↔ (Q (.inl (some (vI (-2)))) M) :=
  Tq_blk (is := bk_180_1) (dd := de_180) rfl rfl
/-- EarthOffice$Sea path block at 21 -/
theorem t180_2 {x1 x2 : Int} {M : Mem} {Q : AR → Mem → Prop} : Tq 180 2 [vR 21 0, vI x1, vI x2, vJ, vJ, vJ] [] M Q ↔ (Tq 3 0 [vR 21007 0, vI 2147483647, vJ, vJ] [] M (kV fun M1 => ((0 : Int) ≤ x1 ∧ x1 < 1024) ∧ bd (mset M1 21007 0 x1 0) fun M2 => Tq 103 0 [vR 2 0] [] M2 (kV fun M3 => Tq 104 0 [vR 2 0, vI 0, vI x1, vJ, vJ, vJ] [] M3 (kV fun M4 => Tq 180 3 [vR 21 0, vJ, vI x2, vJ, vJ, vJ] [] M4 Q)))) :=
  Tq_blk (is := bk_180_2) (dd := de_180) rfl rfl
/-- EarthOffice$Sea path block at 53 -/
theorem t180_3 {x2 : Int} {M : Mem} {Q : AR → Mem → Prop} : Tq 180 3 [vR 21 0, vJ, vI x2, vJ, vJ, vJ] [] M Q ↔ (if M 2 0 1 ≤ 0 then Tq 180 5 [vR 21 0, vJ, vI x2, vJ, vJ, vJ] [] M Q else Tq 105 0 [vR 2 0, vJ, vJ, vJ, vJ, vJ, vJ, vJ] [] M (kL fun v1 M1 => ((0 : Int) ≤ w32 (and64 v1 65535) ∧ w32 (and64 v1 65535) < 1024) ∧ if ¬ M1 21007 0 (w32 (and64 v1 65535)) = w32 (shr64 v1 16) then Tq 180 4 [vR 21 0, vJ, vI x2, vJ, vJ, vJ] [] M1 Q else Tq 181 0 [vR 21 0, vI (w32 (and64 v1 65535)), vJ, vJ, vJ, vJ, vJ] [] M1 (kV fun M2 => Tq 180 4 [vR 21 0, vJ, vI x2, vJ, vJ, vJ] [] M2 Q))) :=
  Tq_blk (is := bk_180_3) (dd := de_180) rfl rfl
/-- EarthOffice$Sea path block at 100 -/
theorem t180_4 {x2 : Int} {M : Mem} {Q : AR → Mem → Prop} : Tq 180 4 [vR 21 0, vJ, vI x2, vJ, vJ, vJ] [] M Q ↔ (Tq 180 3 [vR 21 0, vJ, vI x2, vJ, vJ, vJ] [] M Q) :=
  Tq_blk (is := bk_180_4) (dd := de_180) rfl rfl
/-- EarthOffice$Sea path block at 103 -/
theorem t180_5 {x2 : Int} {M : Mem} {Q : AR → Mem → Prop} : Tq 180 5 [vR 21 0, vJ, vI x2, vJ, vJ, vJ] [] M Q ↔ (((0 : Int) ≤ x2 ∧ x2 < 1024) ∧ if ¬ M 21007 0 x2 = (2147483647 : Int) then Tq 180 6 [vR 21 0, vJ, vI x2, vJ, vJ, vJ] [] M Q else Tq 180 7 [vJ, vJ, vJ, vJ, vJ, vJ] [vI (-2)] M Q) :=
  Tq_blk (is := bk_180_5) (dd := de_180) rfl rfl
/-- EarthOffice$Sea path block at 119 -/
theorem t180_6 {x2 : Int} {M : Mem} {Q : AR → Mem → Prop} : Tq 180 6 [vR 21 0, vJ, vI x2, vJ, vJ, vJ] [] M Q ↔ (((0 : Int) ≤ x2 ∧ x2 < 1024) ∧ Tq 180 7 [vJ, vJ, vJ, vJ, vJ, vJ] [vI (M 21007 0 x2)] M Q) :=
  Tq_blk (is := bk_180_6) (dd := de_180) rfl rfl
/-- EarthOffice$Sea path block at 125 -/
theorem t180_7 {s0 : Int} {M : Mem} {Q : AR → Mem → Prop} : Tq 180 7 [vJ, vJ, vJ, vJ, vJ, vJ] [vI s0] M Q ↔ (Q (.inl (some (vI s0))) M) :=
  Tq_blk (is := bk_180_7) (dd := de_180) rfl rfl
/-- EarthOffice$Sea spread block at 0 -/
theorem t181_0 {x1 : Int} {M : Mem} {Q : AR → Mem → Prop} : Tq 181 0 [vR 21 0, vI x1, vJ, vJ, vJ, vJ, vJ] [] M Q ↔ (Tq 181 1 [vR 21 0, vI x1, vI 0, vJ, vJ, vJ, vJ] [] M Q) :=
  Tq_blk (is := bk_181_0) (dd := de_181) rfl rfl
/-- EarthOffice$Sea spread block at 2 -/
theorem t181_1_c78 {x1 x2 x3 x4 x5 x6 s0 : Int} {M : Mem} {Q : AR → Mem → Prop} : Bq 181 de_181 (List.drop 78 bk_181_1) [vR 21 0, vI x1, vI x2, vI x3, vI x4, vI x5, vI x6] [vI s0, vR 2 0] M Q ↔ (Tq 104 0 [vR 2 0, vI s0, vI x5, vJ, vJ, vJ] [] M (kV fun M1 => Tq 181 2 [vR 21 0, vI x1, vI x2, vJ, vJ, vJ, vJ] [] M1 Q)) :=
  Iff.rfl
theorem t181_1_c72 {x1 x2 x3 x4 x5 x6 : Int} {M : Mem} {Q : AR → Mem → Prop} : Bq 181 de_181 (List.drop 72 bk_181_1) [vR 21 0, vI x1, vI x2, vI x3, vI x4, vI x5, vI x6] [vR 21007 0] M Q ↔ (((0 : Int) ≤ x5 ∧ x5 < 1024) ∧ bd (mset M 21007 0 x5 x6) fun M1 => Tq 104 0 [vR 2 0, vI x6, vI x5, vJ, vJ, vJ] [] M1 (kV fun M2 => Tq 181 2 [vR 21 0, vI x1, vI x2, vJ, vJ, vJ, vJ] [] M2 Q)) :=
  (show Bq 181 de_181 (List.drop 72 bk_181_1) [vR 21 0, vI x1, vI x2, vI x3, vI x4, vI x5, vI x6] [vR 21007 0] M Q ↔ (((0 : Int) ≤ x5 ∧ x5 < 1024) ∧ bd (mset M 21007 0 x5 x6) fun M1 => Bq 181 de_181 (List.drop 78 bk_181_1) [vR 21 0, vI x1, vI x2, vI x3, vI x4, vI x5, vI x6] [vI x6, vR 2 0] M1 Q) from Iff.rfl).trans (by simp only [t181_1_c78])
theorem t181_1_c66 {x1 x2 x3 x4 x5 x6 s1 : Int} {M : Mem} {Q : AR → Mem → Prop} : Bq 181 de_181 (List.drop 66 bk_181_1) [vR 21 0, vI x1, vI x2, vI x3, vI x4, vI x5, vI x6] [vR 21 0, vI s1] M Q ↔ (((0 : Int) ≤ x5 ∧ x5 < 1024) ∧ if M 21007 0 x5 ≤ s1 then Tq 181 2 [vR 21 0, vI x1, vI x2, vJ, vJ, vJ, vJ] [] M Q else ((0 : Int) ≤ x5 ∧ x5 < 1024) ∧ bd (mset M 21007 0 x5 x6) fun M1 => Tq 104 0 [vR 2 0, vI x6, vI x5, vJ, vJ, vJ] [] M1 (kV fun M2 => Tq 181 2 [vR 21 0, vI x1, vI x2, vJ, vJ, vJ, vJ] [] M2 Q)) :=
  (show Bq 181 de_181 (List.drop 66 bk_181_1) [vR 21 0, vI x1, vI x2, vI x3, vI x4, vI x5, vI x6] [vR 21 0, vI s1] M Q ↔ (((0 : Int) ≤ x5 ∧ x5 < 1024) ∧ if M 21007 0 x5 ≤ s1 then Tq 181 2 [vR 21 0, vI x1, vI x2, vJ, vJ, vJ, vJ] [] M Q else Bq 181 de_181 (List.drop 72 bk_181_1) [vR 21 0, vI x1, vI x2, vI x3, vI x4, vI x5, vI x6] [vR 21007 0] M Q) from Iff.rfl).trans (by simp only [t181_1_c72])
theorem t181_1_c60 {x1 x2 x3 x4 x5 s0 s1 s2 s3 : Int} {M : Mem} {Q : AR → Mem → Prop} : Bq 181 de_181 (List.drop 60 bk_181_1) [vR 21 0, vI x1, vI x2, vI x3, vI x4, vI x5, vJ] [vI s0, vI s1, vI s2, vI s3] M Q ↔ ((¬ w32 (s1 + s0) = 0) ∧ ((0 : Int) ≤ x5 ∧ x5 < 1024) ∧ if M 21007 0 x5 ≤ w32 (s3 + div32 s2 (w32 (s1 + s0))) then Tq 181 2 [vR 21 0, vI x1, vI x2, vJ, vJ, vJ, vJ] [] M Q else ((0 : Int) ≤ x5 ∧ x5 < 1024) ∧ bd (mset M 21007 0 x5 (w32 (s3 + div32 s2 (w32 (s1 + s0))))) fun M1 => Tq 104 0 [vR 2 0, vI (w32 (s3 + div32 s2 (w32 (s1 + s0)))), vI x5, vJ, vJ, vJ] [] M1 (kV fun M2 => Tq 181 2 [vR 21 0, vI x1, vI x2, vJ, vJ, vJ, vJ] [] M2 Q)) :=
  (show Bq 181 de_181 (List.drop 60 bk_181_1) [vR 21 0, vI x1, vI x2, vI x3, vI x4, vI x5, vJ] [vI s0, vI s1, vI s2, vI s3] M Q ↔ ((¬ w32 (s1 + s0) = 0) ∧ Bq 181 de_181 (List.drop 66 bk_181_1) [vR 21 0, vI x1, vI x2, vI x3, vI x4, vI x5, vI (w32 (s3 + div32 s2 (w32 (s1 + s0))))] [vR 21 0, vI (w32 (s3 + div32 s2 (w32 (s1 + s0))))] M Q) from Iff.rfl).trans (by simp only [t181_1_c66])
theorem t181_1_c58 {x1 x2 x3 x4 x5 s0 s1 s2 s3 s4 : Int} {M : Mem} {Q : AR → Mem → Prop} : Bq 181 de_181 (List.drop 58 bk_181_1) [vR 21 0, vI x1, vI x2, vI x3, vI x4, vI x5, vJ] [vI s0, vI s1, vI s2, vI s3, vI s4] M Q ↔ ((¬ s0 = 0) ∧ Tq 62 0 [vI (div32 s1 s0), vJ, vJ] [] M (kI fun v1 M1 => (¬ w32 (s2 + v1) = 0) ∧ ((0 : Int) ≤ x5 ∧ x5 < 1024) ∧ if M1 21007 0 x5 ≤ w32 (s4 + div32 s3 (w32 (s2 + v1))) then Tq 181 2 [vR 21 0, vI x1, vI x2, vJ, vJ, vJ, vJ] [] M1 Q else ((0 : Int) ≤ x5 ∧ x5 < 1024) ∧ bd (mset M1 21007 0 x5 (w32 (s4 + div32 s3 (w32 (s2 + v1))))) fun M2 => Tq 104 0 [vR 2 0, vI (w32 (s4 + div32 s3 (w32 (s2 + v1)))), vI x5, vJ, vJ, vJ] [] M2 (kV fun M3 => Tq 181 2 [vR 21 0, vI x1, vI x2, vJ, vJ, vJ, vJ] [] M3 Q))) :=
  (show Bq 181 de_181 (List.drop 58 bk_181_1) [vR 21 0, vI x1, vI x2, vI x3, vI x4, vI x5, vJ] [vI s0, vI s1, vI s2, vI s3, vI s4] M Q ↔ ((¬ s0 = 0) ∧ Tq 62 0 [vI (div32 s1 s0), vJ, vJ] [] M (kI fun v1 M1 => Bq 181 de_181 (List.drop 60 bk_181_1) [vR 21 0, vI x1, vI x2, vI x3, vI x4, vI x5, vJ] [vI v1, vI s2, vI s3, vI s4] M1 Q)) from Iff.rfl).trans (by simp only [t181_1_c60])
theorem t181_1_c52 {x1 x2 x3 x4 x5 s0 s1 s2 s3 : Int} {M : Mem} {Q : AR → Mem → Prop} : Bq 181 de_181 (List.drop 52 bk_181_1) [vR 21 0, vI x1, vI x2, vI x3, vI x4, vI x5, vJ] [vI s0, vI s1, vI s2, vI s3] M Q ↔ (((0 : Int) ≤ x5 ∧ x5 < 1024) ∧ (¬ (2 : Int) = 0) ∧ Tq 62 0 [vI (div32 (w32 (s0 + M 21003 0 x5)) 2), vJ, vJ] [] M (kI fun v1 M1 => (¬ w32 (s1 + v1) = 0) ∧ ((0 : Int) ≤ x5 ∧ x5 < 1024) ∧ if M1 21007 0 x5 ≤ w32 (s3 + div32 s2 (w32 (s1 + v1))) then Tq 181 2 [vR 21 0, vI x1, vI x2, vJ, vJ, vJ, vJ] [] M1 Q else ((0 : Int) ≤ x5 ∧ x5 < 1024) ∧ bd (mset M1 21007 0 x5 (w32 (s3 + div32 s2 (w32 (s1 + v1))))) fun M2 => Tq 104 0 [vR 2 0, vI (w32 (s3 + div32 s2 (w32 (s1 + v1)))), vI x5, vJ, vJ, vJ] [] M2 (kV fun M3 => Tq 181 2 [vR 21 0, vI x1, vI x2, vJ, vJ, vJ, vJ] [] M3 Q))) :=
  (show Bq 181 de_181 (List.drop 52 bk_181_1) [vR 21 0, vI x1, vI x2, vI x3, vI x4, vI x5, vJ] [vI s0, vI s1, vI s2, vI s3] M Q ↔ (((0 : Int) ≤ x5 ∧ x5 < 1024) ∧ Bq 181 de_181 (List.drop 58 bk_181_1) [vR 21 0, vI x1, vI x2, vI x3, vI x4, vI x5, vJ] [vI 2, vI (w32 (s0 + M 21003 0 x5)), vI s1, vI s2, vI s3] M Q) from Iff.rfl).trans (by simp only [t181_1_c58])
theorem t181_1_c46 {x1 x2 x3 x4 x5 s0 s1 s2 : Int} {M : Mem} {Q : AR → Mem → Prop} : Bq 181 de_181 (List.drop 46 bk_181_1) [vR 21 0, vI x1, vI x2, vI x3, vI x4, vI x5, vJ] [vI s0, vI s1, vI s2] M Q ↔ (((0 : Int) ≤ x1 ∧ x1 < 1024) ∧ ((0 : Int) ≤ x5 ∧ x5 < 1024) ∧ (¬ (2 : Int) = 0) ∧ Tq 62 0 [vI (div32 (w32 (M 21003 0 x1 + M 21003 0 x5)) 2), vJ, vJ] [] M (kI fun v1 M1 => (¬ w32 (1 + v1) = 0) ∧ ((0 : Int) ≤ x5 ∧ x5 < 1024) ∧ if M1 21007 0 x5 ≤ w32 (s2 + div32 (w32 (s1 * s0)) (w32 (1 + v1))) then Tq 181 2 [vR 21 0, vI x1, vI x2, vJ, vJ, vJ, vJ] [] M1 Q else ((0 : Int) ≤ x5 ∧ x5 < 1024) ∧ bd (mset M1 21007 0 x5 (w32 (s2 + div32 (w32 (s1 * s0)) (w32 (1 + v1))))) fun M2 => Tq 104 0 [vR 2 0, vI (w32 (s2 + div32 (w32 (s1 * s0)) (w32 (1 + v1)))), vI x5, vJ, vJ, vJ] [] M2 (kV fun M3 => Tq 181 2 [vR 21 0, vI x1, vI x2, vJ, vJ, vJ, vJ] [] M3 Q))) :=
  (show Bq 181 de_181 (List.drop 46 bk_181_1) [vR 21 0, vI x1, vI x2, vI x3, vI x4, vI x5, vJ] [vI s0, vI s1, vI s2] M Q ↔ (((0 : Int) ≤ x1 ∧ x1 < 1024) ∧ Bq 181 de_181 (List.drop 52 bk_181_1) [vR 21 0, vI x1, vI x2, vI x3, vI x4, vI x5, vJ] [vI (M 21003 0 x1), vI 1, vI (w32 (s1 * s0)), vI s2] M Q) from Iff.rfl).trans (by simp only [t181_1_c52])
theorem t181_1_c44 {x1 x2 x3 x4 x5 s0 s1 : Int} {M : Mem} {Q : AR → Mem → Prop} : Bq 181 de_181 (List.drop 44 bk_181_1) [vR 21 0, vI x1, vI x2, vI x3, vI x4, vI x5, vJ] [vI s0, vI s1] M Q ↔ (Tq 106 0 [vI x2] [] M (kI fun v1 M1 => ((0 : Int) ≤ x1 ∧ x1 < 1024) ∧ ((0 : Int) ≤ x5 ∧ x5 < 1024) ∧ (¬ (2 : Int) = 0) ∧ Tq 62 0 [vI (div32 (w32 (M1 21003 0 x1 + M1 21003 0 x5)) 2), vJ, vJ] [] M1 (kI fun v2 M2 => (¬ w32 (1 + v2) = 0) ∧ ((0 : Int) ≤ x5 ∧ x5 < 1024) ∧ if M2 21007 0 x5 ≤ w32 (s1 + div32 (w32 (s0 * v1)) (w32 (1 + v2))) then Tq 181 2 [vR 21 0, vI x1, vI x2, vJ, vJ, vJ, vJ] [] M2 Q else ((0 : Int) ≤ x5 ∧ x5 < 1024) ∧ bd (mset M2 21007 0 x5 (w32 (s1 + div32 (w32 (s0 * v1)) (w32 (1 + v2))))) fun M3 => Tq 104 0 [vR 2 0, vI (w32 (s1 + div32 (w32 (s0 * v1)) (w32 (1 + v2)))), vI x5, vJ, vJ, vJ] [] M3 (kV fun M4 => Tq 181 2 [vR 21 0, vI x1, vI x2, vJ, vJ, vJ, vJ] [] M4 Q)))) :=
  (show Bq 181 de_181 (List.drop 44 bk_181_1) [vR 21 0, vI x1, vI x2, vI x3, vI x4, vI x5, vJ] [vI s0, vI s1] M Q ↔ (Tq 106 0 [vI x2] [] M (kI fun v1 M1 => Bq 181 de_181 (List.drop 46 bk_181_1) [vR 21 0, vI x1, vI x2, vI x3, vI x4, vI x5, vJ] [vI v1, vI s0, vI s1] M1 Q)) from Iff.rfl).trans (by simp only [t181_1_c46])
theorem t181_1_c38 {x1 x2 x3 x4 s0 : Int} {M : Mem} {Q : AR → Mem → Prop} : Bq 181 de_181 (List.drop 38 bk_181_1) [vR 21 0, vI x1, vI x2, vI x3, vI x4, vJ, vJ] [vI s0] M Q ↔ (((0 : Int) ≤ x1 ∧ x1 < 1024) ∧ Tq 106 0 [vI x2] [] M (kI fun v1 M1 => ((0 : Int) ≤ x1 ∧ x1 < 1024) ∧ ((0 : Int) ≤ s0 ∧ s0 < 1024) ∧ (¬ (2 : Int) = 0) ∧ Tq 62 0 [vI (div32 (w32 (M1 21003 0 x1 + M1 21003 0 s0)) 2), vJ, vJ] [] M1 (kI fun v2 M2 => (¬ w32 (1 + v2) = 0) ∧ ((0 : Int) ≤ s0 ∧ s0 < 1024) ∧ if M2 21007 0 s0 ≤ w32 (M 21007 0 x1 + div32 (w32 (64 * v1)) (w32 (1 + v2))) then Tq 181 2 [vR 21 0, vI x1, vI x2, vJ, vJ, vJ, vJ] [] M2 Q else ((0 : Int) ≤ s0 ∧ s0 < 1024) ∧ bd (mset M2 21007 0 s0 (w32 (M 21007 0 x1 + div32 (w32 (64 * v1)) (w32 (1 + v2))))) fun M3 => Tq 104 0 [vR 2 0, vI (w32 (M 21007 0 x1 + div32 (w32 (64 * v1)) (w32 (1 + v2)))), vI s0, vJ, vJ, vJ] [] M3 (kV fun M4 => Tq 181 2 [vR 21 0, vI x1, vI x2, vJ, vJ, vJ, vJ] [] M4 Q)))) :=
  (show Bq 181 de_181 (List.drop 38 bk_181_1) [vR 21 0, vI x1, vI x2, vI x3, vI x4, vJ, vJ] [vI s0] M Q ↔ (((0 : Int) ≤ x1 ∧ x1 < 1024) ∧ Bq 181 de_181 (List.drop 44 bk_181_1) [vR 21 0, vI x1, vI x2, vI x3, vI x4, vI s0, vJ] [vI 64, vI (M 21007 0 x1)] M Q) from Iff.rfl).trans (by simp only [t181_1_c44])
theorem t181_1_c32 {x1 x2 x3 x4 s0 : Int} {M : Mem} {Q : AR → Mem → Prop} : Bq 181 de_181 (List.drop 32 bk_181_1) [vR 21 0, vI x1, vI x2, vI x3, vI x4, vJ, vJ] [vI s0, vR 21003 0] M Q ↔ (((0 : Int) ≤ s0 ∧ s0 < 1024) ∧ if M 21003 0 s0 ≤ 0 then Tq 181 2 [vR 21 0, vI x1, vI x2, vJ, vJ, vJ, vJ] [] M Q else Tq 170 0 [vR 21 0, vI x3, vI x4] [] M (kI fun v1 M1 => ((0 : Int) ≤ x1 ∧ x1 < 1024) ∧ Tq 106 0 [vI x2] [] M1 (kI fun v2 M2 => ((0 : Int) ≤ x1 ∧ x1 < 1024) ∧ ((0 : Int) ≤ v1 ∧ v1 < 1024) ∧ (¬ (2 : Int) = 0) ∧ Tq 62 0 [vI (div32 (w32 (M2 21003 0 x1 + M2 21003 0 v1)) 2), vJ, vJ] [] M2 (kI fun v3 M3 => (¬ w32 (1 + v3) = 0) ∧ ((0 : Int) ≤ v1 ∧ v1 < 1024) ∧ if M3 21007 0 v1 ≤ w32 (M1 21007 0 x1 + div32 (w32 (64 * v2)) (w32 (1 + v3))) then Tq 181 2 [vR 21 0, vI x1, vI x2, vJ, vJ, vJ, vJ] [] M3 Q else ((0 : Int) ≤ v1 ∧ v1 < 1024) ∧ bd (mset M3 21007 0 v1 (w32 (M1 21007 0 x1 + div32 (w32 (64 * v2)) (w32 (1 + v3))))) fun M4 => Tq 104 0 [vR 2 0, vI (w32 (M1 21007 0 x1 + div32 (w32 (64 * v2)) (w32 (1 + v3)))), vI v1, vJ, vJ, vJ] [] M4 (kV fun M5 => Tq 181 2 [vR 21 0, vI x1, vI x2, vJ, vJ, vJ, vJ] [] M5 Q))))) :=
  (show Bq 181 de_181 (List.drop 32 bk_181_1) [vR 21 0, vI x1, vI x2, vI x3, vI x4, vJ, vJ] [vI s0, vR 21003 0] M Q ↔ (((0 : Int) ≤ s0 ∧ s0 < 1024) ∧ if M 21003 0 s0 ≤ 0 then Tq 181 2 [vR 21 0, vI x1, vI x2, vJ, vJ, vJ, vJ] [] M Q else Tq 170 0 [vR 21 0, vI x3, vI x4] [] M (kI fun v1 M1 => Bq 181 de_181 (List.drop 38 bk_181_1) [vR 21 0, vI x1, vI x2, vI x3, vI x4, vJ, vJ] [vI v1] M1 Q)) from Iff.rfl).trans (by simp only [t181_1_c38])
theorem t181_1_c30 {x1 x2 x3 x4 s0 : Int} {M : Mem} {Q : AR → Mem → Prop} : Bq 181 de_181 (List.drop 30 bk_181_1) [vR 21 0, vI x1, vI x2, vI x3, vI x4, vJ, vJ] [vI s0, vR 21 0, vR 21003 0] M Q ↔ (Tq 170 0 [vR 21 0, vI s0, vI x4] [] M (kI fun v1 M1 => ((0 : Int) ≤ v1 ∧ v1 < 1024) ∧ if M1 21003 0 v1 ≤ 0 then Tq 181 2 [vR 21 0, vI x1, vI x2, vJ, vJ, vJ, vJ] [] M1 Q else Tq 170 0 [vR 21 0, vI x3, vI x4] [] M1 (kI fun v2 M2 => ((0 : Int) ≤ x1 ∧ x1 < 1024) ∧ Tq 106 0 [vI x2] [] M2 (kI fun v3 M3 => ((0 : Int) ≤ x1 ∧ x1 < 1024) ∧ ((0 : Int) ≤ v2 ∧ v2 < 1024) ∧ (¬ (2 : Int) = 0) ∧ Tq 62 0 [vI (div32 (w32 (M3 21003 0 x1 + M3 21003 0 v2)) 2), vJ, vJ] [] M3 (kI fun v4 M4 => (¬ w32 (1 + v4) = 0) ∧ ((0 : Int) ≤ v2 ∧ v2 < 1024) ∧ if M4 21007 0 v2 ≤ w32 (M2 21007 0 x1 + div32 (w32 (64 * v3)) (w32 (1 + v4))) then Tq 181 2 [vR 21 0, vI x1, vI x2, vJ, vJ, vJ, vJ] [] M4 Q else ((0 : Int) ≤ v2 ∧ v2 < 1024) ∧ bd (mset M4 21007 0 v2 (w32 (M2 21007 0 x1 + div32 (w32 (64 * v3)) (w32 (1 + v4))))) fun M5 => Tq 104 0 [vR 2 0, vI (w32 (M2 21007 0 x1 + div32 (w32 (64 * v3)) (w32 (1 + v4)))), vI v2, vJ, vJ, vJ] [] M5 (kV fun M6 => Tq 181 2 [vR 21 0, vI x1, vI x2, vJ, vJ, vJ, vJ] [] M6 Q)))))) :=
  (show Bq 181 de_181 (List.drop 30 bk_181_1) [vR 21 0, vI x1, vI x2, vI x3, vI x4, vJ, vJ] [vI s0, vR 21 0, vR 21003 0] M Q ↔ (Tq 170 0 [vR 21 0, vI s0, vI x4] [] M (kI fun v1 M1 => Bq 181 de_181 (List.drop 32 bk_181_1) [vR 21 0, vI x1, vI x2, vI x3, vI x4, vJ, vJ] [vI v1, vR 21003 0] M1 Q)) from Iff.rfl).trans (by simp only [t181_1_c32])
theorem t181_1_c24 {x1 x2 x3 x4 s0 s1 : Int} {M : Mem} {Q : AR → Mem → Prop} : Bq 181 de_181 (List.drop 24 bk_181_1) [vR 21 0, vI x1, vI x2, vI x3, vI x4, vJ, vJ] [vI s0, vI s1, vR 21 0] M Q ↔ (Tq 169 0 [vR 21 0, vI s1, vI s0] [] M (kI fun v1 M1 => if v1 = 0 then Tq 181 2 [vR 21 0, vI x1, vI x2, vJ, vJ, vJ, vJ] [] M1 Q else Tq 170 0 [vR 21 0, vI x3, vI x4] [] M1 (kI fun v2 M2 => ((0 : Int) ≤ v2 ∧ v2 < 1024) ∧ if M2 21003 0 v2 ≤ 0 then Tq 181 2 [vR 21 0, vI x1, vI x2, vJ, vJ, vJ, vJ] [] M2 Q else Tq 170 0 [vR 21 0, vI x3, vI x4] [] M2 (kI fun v3 M3 => ((0 : Int) ≤ x1 ∧ x1 < 1024) ∧ Tq 106 0 [vI x2] [] M3 (kI fun v4 M4 => ((0 : Int) ≤ x1 ∧ x1 < 1024) ∧ ((0 : Int) ≤ v3 ∧ v3 < 1024) ∧ (¬ (2 : Int) = 0) ∧ Tq 62 0 [vI (div32 (w32 (M4 21003 0 x1 + M4 21003 0 v3)) 2), vJ, vJ] [] M4 (kI fun v5 M5 => (¬ w32 (1 + v5) = 0) ∧ ((0 : Int) ≤ v3 ∧ v3 < 1024) ∧ if M5 21007 0 v3 ≤ w32 (M3 21007 0 x1 + div32 (w32 (64 * v4)) (w32 (1 + v5))) then Tq 181 2 [vR 21 0, vI x1, vI x2, vJ, vJ, vJ, vJ] [] M5 Q else ((0 : Int) ≤ v3 ∧ v3 < 1024) ∧ bd (mset M5 21007 0 v3 (w32 (M3 21007 0 x1 + div32 (w32 (64 * v4)) (w32 (1 + v5))))) fun M6 => Tq 104 0 [vR 2 0, vI (w32 (M3 21007 0 x1 + div32 (w32 (64 * v4)) (w32 (1 + v5)))), vI v3, vJ, vJ, vJ] [] M6 (kV fun M7 => Tq 181 2 [vR 21 0, vI x1, vI x2, vJ, vJ, vJ, vJ] [] M7 Q))))))) :=
  (show Bq 181 de_181 (List.drop 24 bk_181_1) [vR 21 0, vI x1, vI x2, vI x3, vI x4, vJ, vJ] [vI s0, vI s1, vR 21 0] M Q ↔ (Tq 169 0 [vR 21 0, vI s1, vI s0] [] M (kI fun v1 M1 => if v1 = 0 then Tq 181 2 [vR 21 0, vI x1, vI x2, vJ, vJ, vJ, vJ] [] M1 Q else Bq 181 de_181 (List.drop 30 bk_181_1) [vR 21 0, vI x1, vI x2, vI x3, vI x4, vJ, vJ] [vI x3, vR 21 0, vR 21003 0] M1 Q)) from Iff.rfl).trans (by simp only [t181_1_c30])
theorem t181_1_c18 {x1 x2 x3 s0 s2 : Int} {M : Mem} {Q : AR → Mem → Prop} : Bq 181 de_181 (List.drop 18 bk_181_1) [vR 21 0, vI x1, vI x2, vI x3, vJ, vJ, vJ] [vI s0, vR 30001 0, vI s2] M Q ↔ (((0 : Int) ≤ s0 ∧ s0 < 16) ∧ Tq 169 0 [vR 21 0, vI x3, vI (w32 (s2 + stA 30001 s0))] [] M (kI fun v1 M1 => if v1 = 0 then Tq 181 2 [vR 21 0, vI x1, vI x2, vJ, vJ, vJ, vJ] [] M1 Q else Tq 170 0 [vR 21 0, vI x3, vI (w32 (s2 + stA 30001 s0))] [] M1 (kI fun v2 M2 => ((0 : Int) ≤ v2 ∧ v2 < 1024) ∧ if M2 21003 0 v2 ≤ 0 then Tq 181 2 [vR 21 0, vI x1, vI x2, vJ, vJ, vJ, vJ] [] M2 Q else Tq 170 0 [vR 21 0, vI x3, vI (w32 (s2 + stA 30001 s0))] [] M2 (kI fun v3 M3 => ((0 : Int) ≤ x1 ∧ x1 < 1024) ∧ Tq 106 0 [vI x2] [] M3 (kI fun v4 M4 => ((0 : Int) ≤ x1 ∧ x1 < 1024) ∧ ((0 : Int) ≤ v3 ∧ v3 < 1024) ∧ (¬ (2 : Int) = 0) ∧ Tq 62 0 [vI (div32 (w32 (M4 21003 0 x1 + M4 21003 0 v3)) 2), vJ, vJ] [] M4 (kI fun v5 M5 => (¬ w32 (1 + v5) = 0) ∧ ((0 : Int) ≤ v3 ∧ v3 < 1024) ∧ if M5 21007 0 v3 ≤ w32 (M3 21007 0 x1 + div32 (w32 (64 * v4)) (w32 (1 + v5))) then Tq 181 2 [vR 21 0, vI x1, vI x2, vJ, vJ, vJ, vJ] [] M5 Q else ((0 : Int) ≤ v3 ∧ v3 < 1024) ∧ bd (mset M5 21007 0 v3 (w32 (M3 21007 0 x1 + div32 (w32 (64 * v4)) (w32 (1 + v5))))) fun M6 => Tq 104 0 [vR 2 0, vI (w32 (M3 21007 0 x1 + div32 (w32 (64 * v4)) (w32 (1 + v5)))), vI v3, vJ, vJ, vJ] [] M6 (kV fun M7 => Tq 181 2 [vR 21 0, vI x1, vI x2, vJ, vJ, vJ, vJ] [] M7 Q))))))) :=
  (show Bq 181 de_181 (List.drop 18 bk_181_1) [vR 21 0, vI x1, vI x2, vI x3, vJ, vJ, vJ] [vI s0, vR 30001 0, vI s2] M Q ↔ (((0 : Int) ≤ s0 ∧ s0 < 16) ∧ Bq 181 de_181 (List.drop 24 bk_181_1) [vR 21 0, vI x1, vI x2, vI x3, vI (w32 (s2 + stA 30001 s0)), vJ, vJ] [vI (w32 (s2 + stA 30001 s0)), vI x3, vR 21 0] M Q) from Iff.rfl).trans (by simp only [t181_1_c24])
theorem t181_1_c12 {x1 x2 x3 : Int} {M : Mem} {Q : AR → Mem → Prop} : Bq 181 de_181 (List.drop 12 bk_181_1) [vR 21 0, vI x1, vI x2, vI x3, vJ, vJ, vJ] [] M Q ↔ ((¬ M 21 0 0 = 0) ∧ ((0 : Int) ≤ x2 ∧ x2 < 16) ∧ Tq 169 0 [vR 21 0, vI x3, vI (w32 (div32 x1 (M 21 0 0) + stA 30001 x2))] [] M (kI fun v1 M1 => if v1 = 0 then Tq 181 2 [vR 21 0, vI x1, vI x2, vJ, vJ, vJ, vJ] [] M1 Q else Tq 170 0 [vR 21 0, vI x3, vI (w32 (div32 x1 (M 21 0 0) + stA 30001 x2))] [] M1 (kI fun v2 M2 => ((0 : Int) ≤ v2 ∧ v2 < 1024) ∧ if M2 21003 0 v2 ≤ 0 then Tq 181 2 [vR 21 0, vI x1, vI x2, vJ, vJ, vJ, vJ] [] M2 Q else Tq 170 0 [vR 21 0, vI x3, vI (w32 (div32 x1 (M 21 0 0) + stA 30001 x2))] [] M2 (kI fun v3 M3 => ((0 : Int) ≤ x1 ∧ x1 < 1024) ∧ Tq 106 0 [vI x2] [] M3 (kI fun v4 M4 => ((0 : Int) ≤ x1 ∧ x1 < 1024) ∧ ((0 : Int) ≤ v3 ∧ v3 < 1024) ∧ (¬ (2 : Int) = 0) ∧ Tq 62 0 [vI (div32 (w32 (M4 21003 0 x1 + M4 21003 0 v3)) 2), vJ, vJ] [] M4 (kI fun v5 M5 => (¬ w32 (1 + v5) = 0) ∧ ((0 : Int) ≤ v3 ∧ v3 < 1024) ∧ if M5 21007 0 v3 ≤ w32 (M3 21007 0 x1 + div32 (w32 (64 * v4)) (w32 (1 + v5))) then Tq 181 2 [vR 21 0, vI x1, vI x2, vJ, vJ, vJ, vJ] [] M5 Q else ((0 : Int) ≤ v3 ∧ v3 < 1024) ∧ bd (mset M5 21007 0 v3 (w32 (M3 21007 0 x1 + div32 (w32 (64 * v4)) (w32 (1 + v5))))) fun M6 => Tq 104 0 [vR 2 0, vI (w32 (M3 21007 0 x1 + div32 (w32 (64 * v4)) (w32 (1 + v5)))), vI v3, vJ, vJ, vJ] [] M6 (kV fun M7 => Tq 181 2 [vR 21 0, vI x1, vI x2, vJ, vJ, vJ, vJ] [] M7 Q))))))) :=
  (show Bq 181 de_181 (List.drop 12 bk_181_1) [vR 21 0, vI x1, vI x2, vI x3, vJ, vJ, vJ] [] M Q ↔ ((¬ M 21 0 0 = 0) ∧ Bq 181 de_181 (List.drop 18 bk_181_1) [vR 21 0, vI x1, vI x2, vI x3, vJ, vJ, vJ] [vI x2, vR 30001 0, vI (div32 x1 (M 21 0 0))] M Q) from Iff.rfl).trans (by simp only [t181_1_c18])
theorem t181_1_c6 {x1 x2 s0 s1 : Int} {M : Mem} {Q : AR → Mem → Prop} : Bq 181 de_181 (List.drop 6 bk_181_1) [vR 21 0, vI x1, vI x2, vJ, vJ, vJ, vJ] [vI s0, vI s1] M Q ↔ ((¬ s0 = 0) ∧ ((0 : Int) ≤ x2 ∧ x2 < 16) ∧ (¬ M 21 0 0 = 0) ∧ ((0 : Int) ≤ x2 ∧ x2 < 16) ∧ Tq 169 0 [vR 21 0, vI (w32 (rem32 s1 s0 + stA 30000 x2)), vI (w32 (div32 x1 (M 21 0 0) + stA 30001 x2))] [] M (kI fun v1 M1 => if v1 = 0 then Tq 181 2 [vR 21 0, vI x1, vI x2, vJ, vJ, vJ, vJ] [] M1 Q else Tq 170 0 [vR 21 0, vI (w32 (rem32 s1 s0 + stA 30000 x2)), vI (w32 (div32 x1 (M 21 0 0) + stA 30001 x2))] [] M1 (kI fun v2 M2 => ((0 : Int) ≤ v2 ∧ v2 < 1024) ∧ if M2 21003 0 v2 ≤ 0 then Tq 181 2 [vR 21 0, vI x1, vI x2, vJ, vJ, vJ, vJ] [] M2 Q else Tq 170 0 [vR 21 0, vI (w32 (rem32 s1 s0 + stA 30000 x2)), vI (w32 (div32 x1 (M 21 0 0) + stA 30001 x2))] [] M2 (kI fun v3 M3 => ((0 : Int) ≤ x1 ∧ x1 < 1024) ∧ Tq 106 0 [vI x2] [] M3 (kI fun v4 M4 => ((0 : Int) ≤ x1 ∧ x1 < 1024) ∧ ((0 : Int) ≤ v3 ∧ v3 < 1024) ∧ (¬ (2 : Int) = 0) ∧ Tq 62 0 [vI (div32 (w32 (M4 21003 0 x1 + M4 21003 0 v3)) 2), vJ, vJ] [] M4 (kI fun v5 M5 => (¬ w32 (1 + v5) = 0) ∧ ((0 : Int) ≤ v3 ∧ v3 < 1024) ∧ if M5 21007 0 v3 ≤ w32 (M3 21007 0 x1 + div32 (w32 (64 * v4)) (w32 (1 + v5))) then Tq 181 2 [vR 21 0, vI x1, vI x2, vJ, vJ, vJ, vJ] [] M5 Q else ((0 : Int) ≤ v3 ∧ v3 < 1024) ∧ bd (mset M5 21007 0 v3 (w32 (M3 21007 0 x1 + div32 (w32 (64 * v4)) (w32 (1 + v5))))) fun M6 => Tq 104 0 [vR 2 0, vI (w32 (M3 21007 0 x1 + div32 (w32 (64 * v4)) (w32 (1 + v5)))), vI v3, vJ, vJ, vJ] [] M6 (kV fun M7 => Tq 181 2 [vR 21 0, vI x1, vI x2, vJ, vJ, vJ, vJ] [] M7 Q))))))) :=
  (show Bq 181 de_181 (List.drop 6 bk_181_1) [vR 21 0, vI x1, vI x2, vJ, vJ, vJ, vJ] [vI s0, vI s1] M Q ↔ ((¬ s0 = 0) ∧ ((0 : Int) ≤ x2 ∧ x2 < 16) ∧ Bq 181 de_181 (List.drop 12 bk_181_1) [vR 21 0, vI x1, vI x2, vI (w32 (rem32 s1 s0 + stA 30000 x2)), vJ, vJ, vJ] [] M Q) from Iff.rfl).trans (by simp only [t181_1_c12])
theorem t181_1 {x1 x2 : Int} {M : Mem} {Q : AR → Mem → Prop} : Tq 181 1 [vR 21 0, vI x1, vI x2, vJ, vJ, vJ, vJ] [] M Q ↔ (if (16 : Int) ≤ x2 then Tq 181 3 [vJ, vJ, vJ, vJ, vJ, vJ, vJ] [] M Q else (¬ M 21 0 0 = 0) ∧ ((0 : Int) ≤ x2 ∧ x2 < 16) ∧ (¬ M 21 0 0 = 0) ∧ ((0 : Int) ≤ x2 ∧ x2 < 16) ∧ Tq 169 0 [vR 21 0, vI (w32 (rem32 x1 (M 21 0 0) + stA 30000 x2)), vI (w32 (div32 x1 (M 21 0 0) + stA 30001 x2))] [] M (kI fun v1 M1 => if v1 = 0 then Tq 181 2 [vR 21 0, vI x1, vI x2, vJ, vJ, vJ, vJ] [] M1 Q else Tq 170 0 [vR 21 0, vI (w32 (rem32 x1 (M 21 0 0) + stA 30000 x2)), vI (w32 (div32 x1 (M 21 0 0) + stA 30001 x2))] [] M1 (kI fun v2 M2 => ((0 : Int) ≤ v2 ∧ v2 < 1024) ∧ if M2 21003 0 v2 ≤ 0 then Tq 181 2 [vR 21 0, vI x1, vI x2, vJ, vJ, vJ, vJ] [] M2 Q else Tq 170 0 [vR 21 0, vI (w32 (rem32 x1 (M 21 0 0) + stA 30000 x2)), vI (w32 (div32 x1 (M 21 0 0) + stA 30001 x2))] [] M2 (kI fun v3 M3 => ((0 : Int) ≤ x1 ∧ x1 < 1024) ∧ Tq 106 0 [vI x2] [] M3 (kI fun v4 M4 => ((0 : Int) ≤ x1 ∧ x1 < 1024) ∧ ((0 : Int) ≤ v3 ∧ v3 < 1024) ∧ (¬ (2 : Int) = 0) ∧ Tq 62 0 [vI (div32 (w32 (M4 21003 0 x1 + M4 21003 0 v3)) 2), vJ, vJ] [] M4 (kI fun v5 M5 => (¬ w32 (1 + v5) = 0) ∧ ((0 : Int) ≤ v3 ∧ v3 < 1024) ∧ if M5 21007 0 v3 ≤ w32 (M3 21007 0 x1 + div32 (w32 (64 * v4)) (w32 (1 + v5))) then Tq 181 2 [vR 21 0, vI x1, vI x2, vJ, vJ, vJ, vJ] [] M5 Q else ((0 : Int) ≤ v3 ∧ v3 < 1024) ∧ bd (mset M5 21007 0 v3 (w32 (M3 21007 0 x1 + div32 (w32 (64 * v4)) (w32 (1 + v5))))) fun M6 => Tq 104 0 [vR 2 0, vI (w32 (M3 21007 0 x1 + div32 (w32 (64 * v4)) (w32 (1 + v5)))), vI v3, vJ, vJ, vJ] [] M6 (kV fun M7 => Tq 181 2 [vR 21 0, vI x1, vI x2, vJ, vJ, vJ, vJ] [] M7 Q))))))) :=
  (show Tq 181 1 [vR 21 0, vI x1, vI x2, vJ, vJ, vJ, vJ] [] M Q ↔ (if (16 : Int) ≤ x2 then Tq 181 3 [vJ, vJ, vJ, vJ, vJ, vJ, vJ] [] M Q else Bq 181 de_181 (List.drop 6 bk_181_1) [vR 21 0, vI x1, vI x2, vJ, vJ, vJ, vJ] [vI (M 21 0 0), vI x1] M Q) from Tq_blk (is := bk_181_1) (dd := de_181) rfl rfl).trans (by simp only [t181_1_c6])
/-- EarthOffice$Sea spread block at 139 -/
theorem t181_2 {x1 x2 : Int} {M : Mem} {Q : AR → Mem → Prop} : Tq 181 2 [vR 21 0, vI x1, vI x2, vJ, vJ, vJ, vJ] [] M Q ↔ (Tq 181 1 [vR 21 0, vI x1, vI (w32 (x2 + 1)), vJ, vJ, vJ, vJ] [] M Q) :=
  Tq_blk (is := bk_181_2) (dd := de_181) rfl rfl
/-- EarthOffice$Sea spread block at 145 -/
theorem t181_3 {M : Mem} {Q : AR → Mem → Prop} : Tq 181 3 [vJ, vJ, vJ, vJ, vJ, vJ, vJ] [] M Q ↔ (Q (.inl none) M) :=
  Tq_blk (is := bk_181_3) (dd := de_181) rfl rfl
/-- EarthOfficeModel begins block at 0 -/
theorem t182_0 {M : Mem} {Q : AR → Mem → Prop} : Tq 182 0 [vR 22 0, vJ] [] M Q ↔ (bd (mset M 22 0 3 0) fun M1 => bd (mset M1 22 0 9 0) fun M2 => Tq 182 1 [vR 22 0, vI 0] [] M2 Q) :=
  Tq_blk (is := bk_182_0) (dd := de_182) rfl rfl
/-- EarthOfficeModel begins block at 12 -/
theorem t182_1 {x1 : Int} {M : Mem} {Q : AR → Mem → Prop} : Tq 182 1 [vR 22 0, vI x1] [] M Q ↔ (if (49152 : Int) ≤ x1 then Tq 182 2 [vR 22 0, vJ] [] M Q else ((0 : Int) ≤ x1 ∧ x1 < 49152) ∧ bd (mset M 22012 0 x1 (nb 0)) fun M1 => ((0 : Int) ≤ x1 ∧ x1 < 49152) ∧ bd (mset M1 22013 0 x1 0) fun M2 => Tq 182 1 [vR 22 0, vI (w32 (x1 + 1))] [] M2 Q) :=
  Tq_blk (is := bk_182_1) (dd := de_182) rfl rfl
/-- EarthOfficeModel begins block at 38 -/
theorem t182_2 {M : Mem} {Q : AR → Mem → Prop} : Tq 182 2 [vR 22 0, vJ] [] M Q ↔ (Tq 182 3 [vR 22 0, vI 0] [] M Q) :=
  Tq_blk (is := bk_182_2) (dd := de_182) rfl rfl
/-- EarthOfficeModel begins block at 40 -/
theorem t182_3 {x1 : Int} {M : Mem} {Q : AR → Mem → Prop} : Tq 182 3 [vR 22 0, vI x1] [] M Q ↔ (if (40 : Int) ≤ x1 then Tq 182 4 [vR 22 0, vJ] [] M Q else ((0 : Int) ≤ x1 ∧ x1 < 40) ∧ bd (mset M 22014 0 x1 0) fun M1 => Tq 182 3 [vR 22 0, vI (w32 (x1 + 1))] [] M1 Q) :=
  Tq_blk (is := bk_182_3) (dd := de_182) rfl rfl
/-- EarthOfficeModel begins block at 59 -/
theorem t182_4 {M : Mem} {Q : AR → Mem → Prop} : Tq 182 4 [vR 22 0, vJ] [] M Q ↔ (Tq 182 5 [vR 22 0, vI 0] [] M Q) :=
  Tq_blk (is := bk_182_4) (dd := de_182) rfl rfl
/-- EarthOfficeModel begins block at 61 -/
theorem t182_5 {x1 : Int} {M : Mem} {Q : AR → Mem → Prop} : Tq 182 5 [vR 22 0, vI x1] [] M Q ↔ (if (48 : Int) ≤ x1 then Tq 182 6 [vR 22 0, vJ] [] M Q else ((0 : Int) ≤ x1 ∧ x1 < 48) ∧ bd (mset M 22015 0 x1 (-99999999)) fun M1 => Tq 182 5 [vR 22 0, vI (w32 (x1 + 1))] [] M1 Q) :=
  Tq_blk (is := bk_182_5) (dd := de_182) rfl rfl
/-- EarthOfficeModel begins block at 81 -/
theorem t182_6 {M : Mem} {Q : AR → Mem → Prop} : Tq 182 6 [vR 22 0, vJ] [] M Q ↔ (Tq 182 7 [vR 22 0, vI 0] [] M Q) :=
  Tq_blk (is := bk_182_6) (dd := de_182) rfl rfl
/-- EarthOfficeModel begins block at 83 -/
theorem t182_7 {x1 : Int} {M : Mem} {Q : AR → Mem → Prop} : Tq 182 7 [vR 22 0, vI x1] [] M Q ↔ (if (6 : Int) ≤ x1 then Tq 182 8 [vR 22 0, vJ] [] M Q else ((0 : Int) ≤ x1 ∧ x1 < 6) ∧ bd (mset M 22018 0 x1 0) fun M1 => ((0 : Int) ≤ x1 ∧ x1 < 6) ∧ bd (mset M1 22019 0 x1 (-99999999)) fun M2 => Tq 182 7 [vR 22 0, vI (w32 (x1 + 1))] [] M2 Q) :=
  Tq_blk (is := bk_182_7) (dd := de_182) rfl rfl
/-- EarthOfficeModel begins block at 110 -/
theorem t182_8 {M : Mem} {Q : AR → Mem → Prop} : Tq 182 8 [vR 22 0, vJ] [] M Q ↔ (bd (mset M 22 0 23 0) fun M1 => Tq 182 9 [vR 22 0, vI 0] [] M1 Q) :=
  Tq_blk (is := bk_182_8) (dd := de_182) rfl rfl
/-- EarthOfficeModel begins block at 117 -/
theorem t182_9 {x1 : Int} {M : Mem} {Q : AR → Mem → Prop} : Tq 182 9 [vR 22 0, vI x1] [] M Q ↔ (if (16 : Int) ≤ x1 then Tq 182 10 [vR 22 0, vJ] [] M Q else ((0 : Int) ≤ x1 ∧ x1 < 32) ∧ bd (mset M 22025 0 x1 20) fun M1 => ((0 : Int) ≤ w32 (16 + x1) ∧ w32 (16 + x1) < 32) ∧ bd (mset M1 22025 0 (w32 (16 + x1)) 35) fun M2 => Tq 182 9 [vR 22 0, vI (w32 (x1 + 1))] [] M2 Q) :=
  Tq_blk (is := bk_182_9) (dd := de_182) rfl rfl
/-- EarthOfficeModel begins block at 148 -/
theorem t182_10 {M : Mem} {Q : AR → Mem → Prop} : Tq 182 10 [vR 22 0, vJ] [] M Q ↔ (((0 : Int) = 0 ∨ (0 : Int) = 1) ∧ bd (mset M 22 0 27 0) fun M1 => bd (mset M1 22 0 28 0) fun M2 => bd (mset M2 22 0 29 0) fun M3 => bd (mset M3 22 0 43 0) fun M4 => bd (mset M4 22 0 50 0) fun M5 => bd (mset M5 22 0 51 0) fun M6 => Tq 183 0 [vR 22 0, vJ] [] M6 (kV fun M7 => bd (mset M7 22 0 57 0) fun M8 => bd (mset M8 22 0 76 0) fun M9 => bd (mset M9 22 0 82 0) fun M10 => bd (mset M10 22 0 83 0) fun M11 => ((0 : Int) = 0 ∨ (0 : Int) = 1) ∧ bd (mset M11 22 0 80 0) fun M12 => bd (mset M12 22 0 81 0) fun M13 => bd (mset M13 22 0 6 0) fun M14 => bd (mset M14 22 0 5 0) fun M15 => Q (.inl none) M15)) :=
  Tq_blk (is := bk_182_10) (dd := de_182) rfl rfl
/-- EarthOfficeModel emptySea block at 0 -/
theorem t183_0 {M : Mem} {Q : AR → Mem → Prop} : Tq 183 0 [vR 22 0, vJ] [] M Q ↔ (Tq 183 1 [vR 22 0, vI 0] [] M Q) :=
  Tq_blk (is := bk_183_0) (dd := de_183) rfl rfl
/-- EarthOfficeModel emptySea block at 2 -/
theorem t183_1 {x1 : Int} {M : Mem} {Q : AR → Mem → Prop} : Tq 183 1 [vR 22 0, vI x1] [] M Q ↔ (if (1024 : Int) ≤ x1 then Tq 183 2 [vJ, vJ] [] M Q else ((0 : Int) ≤ x1 ∧ x1 < 1024) ∧ bd (mset M 22052 0 x1 0) fun M1 => ((0 : Int) ≤ x1 ∧ x1 < 1024) ∧ bd (mset M1 22053 0 x1 0) fun M2 => ((0 : Int) ≤ x1 ∧ x1 < 1024) ∧ bd (mset M2 22054 0 x1 0) fun M3 => ((0 : Int) ≤ x1 ∧ x1 < 2048) ∧ bd (mset M3 22055 0 x1 0) fun M4 => ((0 : Int) ≤ w32 (1024 + x1) ∧ w32 (1024 + x1) < 2048) ∧ bd (mset M4 22055 0 (w32 (1024 + x1)) 0) fun M5 => Tq 183 1 [vR 22 0, vI (w32 (x1 + 1))] [] M5 Q) :=
  Tq_blk (is := bk_183_1) (dd := de_183) rfl rfl
/-- EarthOfficeModel emptySea block at 54 -/
theorem t183_2 {M : Mem} {Q : AR → Mem → Prop} : Tq 183 2 [vJ, vJ] [] M Q ↔ (Q (.inl none) M) :=
  Tq_blk (is := bk_183_2) (dd := de_183) rfl rfl
/-- EarthOfficeModel feed block at 0 -/
theorem t184_0 {x1 x2 x3 x4 x5 : Int} {M : Mem} {Q : AR → Mem → Prop} : Tq 184 0 [vR 22 0, vI x1, vI x2, vI x3, vI x4, vI x5] [] M Q ↔ (if w32 (M 22 0 3 + 20) ≤ (400 : Int) then Tq 184 1 [vR 22 0, vI x1, vI x2, vI x3, vI x4, vI x5] [] M Q else Q (.inl (some (vI (-3)))) M) :=
  Tq_blk (is := bk_184_0) (dd := de_184) rfl rfl
/-- EarthOfficeModel feed block at 16 -/
theorem t184_1 {x1 x2 x3 x4 x5 : Int} {M : Mem} {Q : AR → Mem → Prop} : Tq 184 1 [vR 22 0, vI x1, vI x2, vI x3, vI x4, vI x5] [] M Q ↔ (Tq 185 0 [vR 22099 8, vI (M 22 0 3), vI x1] [] M (kV fun M1 => Tq 185 0 [vR 22099 8, vI (w32 (M1 22 0 3 + 4)), vI x2] [] M1 (kV fun M2 => Tq 185 0 [vR 22099 8, vI (w32 (M2 22 0 3 + 8)), vI x3] [] M2 (kV fun M3 => Tq 185 0 [vR 22099 8, vI (w32 (M3 22 0 3 + 12)), vI x4] [] M3 (kV fun M4 => Tq 185 0 [vR 22099 8, vI (w32 (M4 22 0 3 + 16)), vI x5] [] M4 (kV fun M5 => bd (mset M5 22 0 3 (w32 (M5 22 0 3 + 20))) fun M6 => Q (.inl (some (vI (M6 22 0 3)))) M6)))))) :=
  Tq_blk (is := bk_184_1) (dd := de_184) rfl rfl
/-- EarthOfficeModel putFour block at 0 -/
theorem t185_0_22004 {x1 x2 : Int} {M : Mem} {Q : AR → Mem → Prop} : Tq 185 0 [vR 22004 0, vI x1, vI x2] [] M Q ↔ (Tq 186 0 [vR 22004 0, vI x1, vI (shr32 x2 16)] [] M (kV fun M1 => Tq 186 0 [vR 22004 0, vI (w32 (x1 + 2)), vI x2] [] M1 (kV fun M2 => Q (.inl none) M2))) :=
  Tq_blk (is := bk_185_0) (dd := de_185) rfl rfl
/-- EarthOfficeModel putFour block at 0 -/
theorem t185_0_22099 {x0 x1 x2 : Int} {M : Mem} {Q : AR → Mem → Prop} : Tq 185 0 [vR 22099 x0, vI x1, vI x2] [] M Q ↔ (Tq 186 0 [vR 22099 x0, vI x1, vI (shr32 x2 16)] [] M (kV fun M1 => Tq 186 0 [vR 22099 x0, vI (w32 (x1 + 2)), vI x2] [] M1 (kV fun M2 => Q (.inl none) M2))) :=
  Tq_blk (is := bk_185_0) (dd := de_185) rfl rfl
/-- EarthOfficeModel putTwo block at 0 -/
theorem t186_0_22004 {x1 x2 : Int} {M : Mem} {Q : AR → Mem → Prop} : Tq 186 0 [vR 22004 0, vI x1, vI x2] [] M Q ↔ (((0 : Int) ≤ x1 ∧ x1 < 61000) ∧ bd (mset M 22004 0 x1 (w8 (w8 (shr32 x2 8)))) fun M1 => ((0 : Int) ≤ w32 (x1 + 1) ∧ w32 (x1 + 1) < 61000) ∧ bd (mset M1 22004 0 (w32 (x1 + 1)) (w8 (w8 x2))) fun M2 => Q (.inl none) M2) :=
  Tq_blk (is := bk_186_0) (dd := de_186) rfl rfl
/-- EarthOfficeModel putTwo block at 0 -/
theorem t186_0_22099 {x0 x1 x2 : Int} {M : Mem} {Q : AR → Mem → Prop} : Tq 186 0 [vR 22099 x0, vI x1, vI x2] [] M Q ↔ (((0 : Int) ≤ x1 ∧ x1 < 400) ∧ bd (mset M 22099 x0 x1 (w8 (w8 (shr32 x2 8)))) fun M1 => ((0 : Int) ≤ w32 (x1 + 1) ∧ w32 (x1 + 1) < 400) ∧ bd (mset M1 22099 x0 (w32 (x1 + 1)) (w8 (w8 x2))) fun M2 => Q (.inl none) M2) :=
  Tq_blk (is := bk_186_0) (dd := de_186) rfl rfl
/-- EarthOfficeModel cut block at 0 -/
theorem t187_0 {x1 : Int} {M : Mem} {Q : AR → Mem → Prop} : Tq 187 0 [vR 22 0, vI x1, vJ] [] M Q ↔ (if x1 < 0 then Tq 187 1 [vJ, vJ, vJ] [] M Q else if x1 ≤ M 22 0 3 then Tq 187 2 [vR 22 0, vI x1, vJ] [] M Q else Tq 187 1 [vJ, vJ, vJ] [] M Q) :=
  Tq_blk (is := bk_187_0) (dd := de_187) rfl rfl
/-- EarthOfficeModel cut block at 12 -/
theorem t187_1 {M : Mem} {Q : AR → Mem → Prop} : Tq 187 1 [vJ, vJ, vJ] [] M Q ↔ (Q (.inl (some (vI (-1)))) M) :=
  Tq_blk (is := bk_187_1) (dd := de_187) rfl rfl
/-- EarthOfficeModel cut block at 14 -/
theorem t187_2 {x1 : Int} {M : Mem} {Q : AR → Mem → Prop} : Tq 187 2 [vR 22 0, vI x1, vJ] [] M Q ↔ (bd (mset M 22 0 3 x1) fun M1 => Q (.inl (some (vI (M 22 0 3)))) M1) :=
  Tq_blk (is := bk_187_2) (dd := de_187) rfl rfl
/-- EarthOfficeModel at block at 0 -/
theorem t188_0 {x1 : Int} {M : Mem} {Q : AR → Mem → Prop} : Tq 188 0 [vR 22 0, vI x1] [] M Q ↔ (Tq 189 0 [vI x1, vI 0, vI (w32 (M 22 0 3 - 1))] [] M (kI fun v1 M1 => if v1 = 0 then Tq 188 1 [vJ, vJ] [] M1 Q else ((0 : Int) ≤ x1 ∧ x1 < 400) ∧ Tq 188 2 [vJ, vJ] [vI (and32 (M1 22099 8 x1) 255)] M1 Q)) :=
  Tq_blk (is := bk_188_0) (dd := de_188) rfl rfl
/-- EarthOfficeModel at block at 27 -/
theorem t188_1 {M : Mem} {Q : AR → Mem → Prop} : Tq 188 1 [vJ, vJ] [] M Q ↔ (Tq 188 2 [vJ, vJ] [vI (-99999999)] M Q) :=
  Tq_blk (is := bk_188_1) (dd := de_188) rfl rfl
/-- EarthOfficeModel at block at 29 -/
theorem t188_2 {s0 : Int} {M : Mem} {Q : AR → Mem → Prop} : Tq 188 2 [vJ, vJ] [vI s0] M Q ↔ (Q (.inl (some (vI s0))) M) :=
  Tq_blk (is := bk_188_2) (dd := de_188) rfl rfl
/-- EarthOfficeModel isIn block at 0 -/
theorem t189_0 {x0 x1 x2 : Int} {M : Mem} {Q : AR → Mem → Prop} : Tq 189 0 [vI x0, vI x1, vI x2] [] M Q ↔ (if x0 < x1 then Tq 189 1 [vJ, vJ, vJ] [] M Q else if x2 < x0 then Tq 189 1 [vJ, vJ, vJ] [] M Q else Tq 189 2 [vJ, vJ, vJ] [vI 1] M Q) :=
  Tq_blk (is := bk_189_0) (dd := de_189) rfl rfl
/-- EarthOfficeModel isIn block at 14 -/
theorem t189_1 {M : Mem} {Q : AR → Mem → Prop} : Tq 189 1 [vJ, vJ, vJ] [] M Q ↔ (Tq 189 2 [vJ, vJ, vJ] [vI 0] M Q) :=
  Tq_blk (is := bk_189_1) (dd := de_189) rfl rfl
/-- EarthOfficeModel isIn block at 15 -/
theorem t189_2 {s0 : Int} {M : Mem} {Q : AR → Mem → Prop} : Tq 189 2 [vJ, vJ, vJ] [vI s0] M Q ↔ (Q (.inl (some (vI (nb s0)))) M) :=
  Tq_blk (is := bk_189_2) (dd := de_189) rfl rfl
/-- EarthOfficeModel logged block at 0 -/
theorem t190_0 {x1 : Int} {M : Mem} {Q : AR → Mem → Prop} : Tq 190 0 [vR 22 0, vI x1] [] M Q ↔ (Tq 189 0 [vI x1, vI 0, vI (w32 (M 22 0 5 - 1))] [] M (kI fun v1 M1 => if v1 = 0 then Tq 190 1 [vJ, vJ] [] M1 Q else ((0 : Int) ≤ x1 ∧ x1 < 61000) ∧ Tq 190 2 [vJ, vJ] [vI (and32 (M1 22004 0 x1) 255)] M1 Q)) :=
  Tq_blk (is := bk_190_0) (dd := de_190) rfl rfl
/-- EarthOfficeModel logged block at 27 -/
theorem t190_1 {M : Mem} {Q : AR → Mem → Prop} : Tq 190 1 [vJ, vJ] [] M Q ↔ (Tq 190 2 [vJ, vJ] [vI (-99999999)] M Q) :=
  Tq_blk (is := bk_190_1) (dd := de_190) rfl rfl
/-- EarthOfficeModel logged block at 29 -/
theorem t190_2 {s0 : Int} {M : Mem} {Q : AR → Mem → Prop} : Tq 190 2 [vJ, vJ] [vI s0] M Q ↔ (Q (.inl (some (vI s0))) M) :=
  Tq_blk (is := bk_190_2) (dd := de_190) rfl rfl
/-- EarthOfficeModel crash block at 0 -/
theorem t191_0 {x1 : Int} {M : Mem} {Q : AR → Mem → Prop} : Tq 191 0 [vR 22 0, vI x1, vJ, vJ, vJ, vJ] [] M Q ↔ (Tq 191 1 [vR 22 0, vI x1, vI 0, vI 0, vJ, vJ] [] M Q) :=
  Tq_blk (is := bk_191_0) (dd := de_191) rfl rfl
/-- EarthOfficeModel crash block at 4 -/
theorem t191_1 {x1 x2 x3 : Int} {M : Mem} {Q : AR → Mem → Prop} : Tq 191 1 [vR 22 0, vI x1, vI x2, vI x3, vJ, vJ] [] M Q ↔ (if M 22 0 5 ≤ x3 then Tq 191 2 [vR 22 0, vI x1, vI x2, vJ, vJ, vJ] [] M Q else Tq 192 0 [vR 22004 0, vI x3] [] M (kI fun v1 M1 => Tq 191 1 [vR 22 0, vI x1, vI (w32 (v1 + 6)), vI (w32 (x3 + w32 (v1 + 6))), vJ, vJ] [] M1 Q)) :=
  Tq_blk (is := bk_191_1) (dd := de_191) rfl rfl
/-- EarthOfficeModel crash block at 31 -/
theorem t191_2 {x1 x2 : Int} {M : Mem} {Q : AR → Mem → Prop} : Tq 191 2 [vR 22 0, vI x1, vI x2, vJ, vJ, vJ] [] M Q ↔ (if x1 < 0 then Tq 191 3 [vJ, vJ, vJ, vJ, vJ, vJ] [] M Q else if x1 ≤ x2 then Tq 191 4 [vR 22 0, vI x1, vI x2, vJ, vJ, vJ] [] M Q else Tq 191 3 [vJ, vJ, vJ, vJ, vJ, vJ] [] M Q) :=
  Tq_blk (is := bk_191_2) (dd := de_191) rfl rfl
/-- EarthOfficeModel crash block at 40 -/
theorem t191_3 {M : Mem} {Q : AR → Mem → Prop} : Tq 191 3 [vJ, vJ, vJ, vJ, vJ, vJ] [] M Q ↔ (Q (.inl (some (vI (-1)))) M) :=
  Tq_blk (is := bk_191_3) (dd := de_191) rfl rfl
/-- EarthOfficeModel crash block at 42 -/
theorem t191_4 {x1 x2 : Int} {M : Mem} {Q : AR → Mem → Prop} : Tq 191 4 [vR 22 0, vI x1, vI x2, vJ, vJ, vJ] [] M Q ↔ (if ¬ x1 = 0 then Tq 191 5 [vR 22 0, vJ, vI x2, vJ, vJ, vJ] [] M Q else Tq 191 6 [vR 22 0, vJ, vJ, vJ, vJ, vJ] [vI (M 22 0 5)] M Q) :=
  Tq_blk (is := bk_191_4) (dd := de_191) rfl rfl
/-- EarthOfficeModel crash block at 53 -/
theorem t191_5 {x2 : Int} {M : Mem} {Q : AR → Mem → Prop} : Tq 191 5 [vR 22 0, vJ, vI x2, vJ, vJ, vJ] [] M Q ↔ (Tq 191 6 [vR 22 0, vJ, vJ, vJ, vJ, vJ] [vI (w32 (M 22 0 5 - x2))] M Q) :=
  Tq_blk (is := bk_191_5) (dd := de_191) rfl rfl
/-- EarthOfficeModel crash block at 59 -/
theorem t191_6 {s0 : Int} {M : Mem} {Q : AR → Mem → Prop} : Tq 191 6 [vR 22 0, vJ, vJ, vJ, vJ, vJ] [vI s0] M Q ↔ (Tq 191 7 [vR 22 0, vJ, vJ, vJ, vI s0, vI 0] [] M Q) :=
  Tq_blk (is := bk_191_6) (dd := de_191) rfl rfl
/-- EarthOfficeModel crash block at 64 -/
theorem t191_7 {x4 x5 : Int} {M : Mem} {Q : AR → Mem → Prop} : Tq 191 7 [vR 22 0, vJ, vJ, vJ, vI x4, vI x5] [] M Q ↔ (if x4 ≤ x5 then Tq 191 8 [vR 22 0, vJ, vJ, vJ, vI x4, vJ] [] M Q else ((0 : Int) ≤ x5 ∧ x5 < 61000) ∧ ((0 : Int) ≤ x5 ∧ x5 < 60000) ∧ bd (mset M 22008 0 x5 (w8 (M 22004 0 x5))) fun M1 => Tq 191 7 [vR 22 0, vJ, vJ, vJ, vI x4, vI (w32 (x5 + 1))] [] M1 Q) :=
  Tq_blk (is := bk_191_7) (dd := de_191) rfl rfl
/-- EarthOfficeModel crash block at 91 -/
theorem t191_8 {x4 : Int} {M : Mem} {Q : AR → Mem → Prop} : Tq 191 8 [vR 22 0, vJ, vJ, vJ, vI x4, vJ] [] M Q ↔ (Tq 182 0 [vR 22 0, vJ] [] M (kV fun M1 => Tq 191 9 [vR 22 0, vJ, vJ, vI 0, vI x4, vJ] [] M1 Q)) :=
  Tq_blk (is := bk_191_8) (dd := de_191) rfl rfl
/-- EarthOfficeModel crash block at 97 -/
theorem t191_9 {x3 x4 : Int} {M : Mem} {Q : AR → Mem → Prop} : Tq 191 9 [vR 22 0, vJ, vJ, vI x3, vI x4, vJ] [] M Q ↔ (if x4 ≤ x3 then Tq 191 10 [vR 22 0, vJ, vJ, vJ, vJ, vJ] [] M Q else Tq 192 0 [vR 22008 0, vI x3] [] M (kI fun v1 M1 => Tq 193 0 [vR 22 0, vI (w32 (x3 + 2)), vI v1, vJ, vJ, vJ, vJ, vJ, vJ] [] M1 (kV fun M2 => Tq 191 9 [vR 22 0, vJ, vJ, vI (w32 (x3 + w32 (v1 + 6))), vI x4, vJ] [] M2 Q))) :=
  Tq_blk (is := bk_191_9) (dd := de_191) rfl rfl
/-- EarthOfficeModel crash block at 133 -/
theorem t191_10 {M : Mem} {Q : AR → Mem → Prop} : Tq 191 10 [vR 22 0, vJ, vJ, vJ, vJ, vJ] [] M Q ↔ (Q (.inl (some (vI (M 22 0 6)))) M) :=
  Tq_blk (is := bk_191_10) (dd := de_191) rfl rfl
/-- EarthOfficeModel two block at 0 -/
theorem t192_0_22004 {x1 : Int} {M : Mem} {Q : AR → Mem → Prop} : Tq 192 0 [vR 22004 0, vI x1] [] M Q ↔ (((0 : Int) ≤ x1 ∧ x1 < 61000) ∧ ((0 : Int) ≤ w32 (x1 + 1) ∧ w32 (x1 + 1) < 61000) ∧ Q (.inl (some (vI (or32 (shl32 (and32 (M 22004 0 x1) 255) 8) (and32 (M 22004 0 (w32 (x1 + 1))) 255))))) M) :=
  Tq_blk (is := bk_192_0) (dd := de_192) rfl rfl
/-- EarthOfficeModel two block at 0 -/
theorem t192_0_22008 {x1 : Int} {M : Mem} {Q : AR → Mem → Prop} : Tq 192 0 [vR 22008 0, vI x1] [] M Q ↔ (((0 : Int) ≤ x1 ∧ x1 < 60000) ∧ ((0 : Int) ≤ w32 (x1 + 1) ∧ w32 (x1 + 1) < 60000) ∧ Q (.inl (some (vI (or32 (shl32 (and32 (M 22008 0 x1) 255) 8) (and32 (M 22008 0 (w32 (x1 + 1))) 255))))) M) :=
  Tq_blk (is := bk_192_0) (dd := de_192) rfl rfl
/-- EarthOfficeModel two block at 0 -/
theorem t192_0_22016 {x1 : Int} {M : Mem} {Q : AR → Mem → Prop} : Tq 192 0 [vR 22016 0, vI x1] [] M Q ↔ (((0 : Int) ≤ x1 ∧ x1 < 4000) ∧ ((0 : Int) ≤ w32 (x1 + 1) ∧ w32 (x1 + 1) < 4000) ∧ Q (.inl (some (vI (or32 (shl32 (and32 (M 22016 0 x1) 255) 8) (and32 (M 22016 0 (w32 (x1 + 1))) 255))))) M) :=
  Tq_blk (is := bk_192_0) (dd := de_192) rfl rfl
/-- EarthOfficeModel again block at 0 -/
theorem t193_0 {x1 x2 : Int} {M : Mem} {Q : AR → Mem → Prop} : Tq 193 0 [vR 22 0, vI x1, vI x2, vJ, vJ, vJ, vJ, vJ, vJ] [] M Q ↔ (if x2 ≤ (4 : Int) then Tq 193 1 [vR 22 0, vI x1, vI x2, vJ, vJ, vJ, vJ, vJ, vJ] [] M Q else Tq 194 0 [vR 22 0, vI x1, vI 0] [] M (kI fun v1 M1 => Tq 193 2 [vR 22 0, vI x1, vI x2, vJ, vJ, vJ, vJ, vJ, vJ] [vI v1] M1 Q)) :=
  Tq_blk (is := bk_193_0) (dd := de_193) rfl rfl
/-- EarthOfficeModel again block at 14 -/
theorem t193_1 {x1 x2 : Int} {M : Mem} {Q : AR → Mem → Prop} : Tq 193 1 [vR 22 0, vI x1, vI x2, vJ, vJ, vJ, vJ, vJ, vJ] [] M Q ↔ (Tq 193 2 [vR 22 0, vI x1, vI x2, vJ, vJ, vJ, vJ, vJ, vJ] [vI 0] M Q) :=
  Tq_blk (is := bk_193_1) (dd := de_193) rfl rfl
/-- EarthOfficeModel again block at 15 -/
theorem t193_2 {x1 x2 s0 : Int} {M : Mem} {Q : AR → Mem → Prop} : Tq 193 2 [vR 22 0, vI x1, vI x2, vJ, vJ, vJ, vJ, vJ, vJ] [vI s0] M Q ↔ (if x2 ≤ (8 : Int) then Tq 193 3 [vR 22 0, vI x1, vI x2, vI s0, vJ, vJ, vJ, vJ, vJ] [] M Q else Tq 194 0 [vR 22 0, vI x1, vI 1] [] M (kI fun v1 M1 => Tq 193 4 [vR 22 0, vI x1, vI x2, vI s0, vJ, vJ, vJ, vJ, vJ] [vI v1] M1 Q)) :=
  Tq_blk (is := bk_193_2) (dd := de_193) rfl rfl
/-- EarthOfficeModel again block at 31 -/
theorem t193_3 {x1 x2 x3 : Int} {M : Mem} {Q : AR → Mem → Prop} : Tq 193 3 [vR 22 0, vI x1, vI x2, vI x3, vJ, vJ, vJ, vJ, vJ] [] M Q ↔ (Tq 193 4 [vR 22 0, vI x1, vI x2, vI x3, vJ, vJ, vJ, vJ, vJ] [vI 0] M Q) :=
  Tq_blk (is := bk_193_3) (dd := de_193) rfl rfl
/-- EarthOfficeModel again block at 32 -/
theorem t193_4 {x1 x2 x3 s0 : Int} {M : Mem} {Q : AR → Mem → Prop} : Tq 193 4 [vR 22 0, vI x1, vI x2, vI x3, vJ, vJ, vJ, vJ, vJ] [vI s0] M Q ↔ (if x2 ≤ (12 : Int) then Tq 193 5 [vR 22 0, vI x1, vI x2, vI x3, vI s0, vJ, vJ, vJ, vJ] [] M Q else Tq 194 0 [vR 22 0, vI x1, vI 2] [] M (kI fun v1 M1 => Tq 193 6 [vR 22 0, vI x1, vI x2, vI x3, vI s0, vJ, vJ, vJ, vJ] [vI v1] M1 Q)) :=
  Tq_blk (is := bk_193_4) (dd := de_193) rfl rfl
/-- EarthOfficeModel again block at 49 -/
theorem t193_5 {x1 x2 x3 x4 : Int} {M : Mem} {Q : AR → Mem → Prop} : Tq 193 5 [vR 22 0, vI x1, vI x2, vI x3, vI x4, vJ, vJ, vJ, vJ] [] M Q ↔ (Tq 193 6 [vR 22 0, vI x1, vI x2, vI x3, vI x4, vJ, vJ, vJ, vJ] [vI 0] M Q) :=
  Tq_blk (is := bk_193_5) (dd := de_193) rfl rfl
/-- EarthOfficeModel again block at 50 -/
theorem t193_6 {x1 x2 x3 x4 s0 : Int} {M : Mem} {Q : AR → Mem → Prop} : Tq 193 6 [vR 22 0, vI x1, vI x2, vI x3, vI x4, vJ, vJ, vJ, vJ] [vI s0] M Q ↔ (if x2 ≤ (16 : Int) then Tq 193 7 [vR 22 0, vI x1, vI x2, vI x3, vI x4, vI s0, vJ, vJ, vJ] [] M Q else Tq 194 0 [vR 22 0, vI x1, vI 3] [] M (kI fun v1 M1 => Tq 193 8 [vR 22 0, vI x1, vI x2, vI x3, vI x4, vI s0, vJ, vJ, vJ] [vI v1] M1 Q)) :=
  Tq_blk (is := bk_193_6) (dd := de_193) rfl rfl
/-- EarthOfficeModel again block at 67 -/
theorem t193_7 {x1 x2 x3 x4 x5 : Int} {M : Mem} {Q : AR → Mem → Prop} : Tq 193 7 [vR 22 0, vI x1, vI x2, vI x3, vI x4, vI x5, vJ, vJ, vJ] [] M Q ↔ (Tq 193 8 [vR 22 0, vI x1, vI x2, vI x3, vI x4, vI x5, vJ, vJ, vJ] [vI 0] M Q) :=
  Tq_blk (is := bk_193_7) (dd := de_193) rfl rfl
/-- EarthOfficeModel again block at 68 -/
theorem t193_8 {x1 x2 x3 x4 x5 s0 : Int} {M : Mem} {Q : AR → Mem → Prop} : Tq 193 8 [vR 22 0, vI x1, vI x2, vI x3, vI x4, vI x5, vJ, vJ, vJ] [vI s0] M Q ↔ (if x2 ≤ (20 : Int) then Tq 193 9 [vR 22 0, vI x1, vI x2, vI x3, vI x4, vI x5, vI s0, vJ, vJ] [] M Q else Tq 194 0 [vR 22 0, vI x1, vI 4] [] M (kI fun v1 M1 => Tq 193 10 [vR 22 0, vI x1, vI x2, vI x3, vI x4, vI x5, vI s0, vJ, vJ] [vI v1] M1 Q)) :=
  Tq_blk (is := bk_193_8) (dd := de_193) rfl rfl
/-- EarthOfficeModel again block at 85 -/
theorem t193_9 {x1 x2 x3 x4 x5 x6 : Int} {M : Mem} {Q : AR → Mem → Prop} : Tq 193 9 [vR 22 0, vI x1, vI x2, vI x3, vI x4, vI x5, vI x6, vJ, vJ] [] M Q ↔ (Tq 193 10 [vR 22 0, vI x1, vI x2, vI x3, vI x4, vI x5, vI x6, vJ, vJ] [vI 0] M Q) :=
  Tq_blk (is := bk_193_9) (dd := de_193) rfl rfl
/-- EarthOfficeModel again block at 86 -/
theorem t193_10 {x1 x2 x3 x4 x5 x6 s0 : Int} {M : Mem} {Q : AR → Mem → Prop} : Tq 193 10 [vR 22 0, vI x1, vI x2, vI x3, vI x4, vI x5, vI x6, vJ, vJ] [vI s0] M Q ↔ (((0 : Int) ≤ x1 ∧ x1 < 60000) ∧ if M 22008 0 x1 = 67 then Tq 193 21 [vR 22 0, vJ, vJ, vI x3, vI x4, vI x5, vI x6, vJ, vJ] [] M Q else if M 22008 0 x1 = 68 then Tq 193 15 [vR 22 0, vJ, vJ, vI x3, vI x4, vI x5, vJ, vJ, vJ] [] M Q else if M 22008 0 x1 = 69 then Tq 193 16 [vR 22 0, vI x1, vJ, vJ, vJ, vJ, vJ, vJ, vJ] [] M Q else if M 22008 0 x1 = 70 then Tq 193 29 [vR 22 0, vJ, vJ, vI x3, vI x4, vJ, vJ, vJ, vJ] [] M Q else if M 22008 0 x1 = 71 then Tq 193 19 [vR 22 0, vJ, vJ, vI x3, vI x4, vJ, vJ, vJ, vJ] [] M Q else if M 22008 0 x1 = 73 then Tq 193 35 [vR 22 0, vJ, vJ, vI x3, vJ, vJ, vJ, vJ, vJ] [] M Q else if M 22008 0 x1 = 76 then Tq 193 22 [vR 22 0, vJ, vJ, vI x3, vI x4, vI x5, vJ, vJ, vJ] [] M Q else if M 22008 0 x1 = 77 then Tq 193 18 [vR 22 0, vJ, vJ, vI x3, vI x4, vJ, vJ, vJ, vJ] [] M Q else if M 22008 0 x1 = 78 then Tq 193 20 [vR 22 0, vJ, vJ, vI x3, vI x4, vJ, vJ, vJ, vJ] [] M Q else if M 22008 0 x1 = 82 then Tq 193 12 [vR 22 0, vI x1, vJ, vI x3, vI x4, vI x5, vJ, vJ, vJ] [] M Q else if M 22008 0 x1 = 83 then Tq 193 11 [vR 22 0, vJ, vJ, vI x3, vI x4, vJ, vJ, vJ, vJ] [] M Q else if M 22008 0 x1 = 84 then Tq 193 23 [vR 22 0, vI x1, vI x2, vJ, vJ, vJ, vJ, vJ, vJ] [] M Q else if M 22008 0 x1 = 85 then Tq 193 26 [vR 22 0, vJ, vJ, vI x3, vI x4, vI x5, vI x6, vI s0, vJ] [] M Q else if M 22008 0 x1 = 86 then Tq 193 17 [vR 22 0, vI x1, vJ, vI x3, vI x4, vI x5, vI x6, vI s0, vJ] [] M Q else if M 22008 0 x1 = 88 then Tq 193 32 [vR 22 0, vJ, vJ, vI x3, vJ, vJ, vJ, vJ, vJ] [] M Q else Tq 193 36 [vR 22 0, vJ, vJ, vI x3, vJ, vJ, vJ, vJ, vJ] [] M Q) :=
  Tq_blk (is := bk_193_10) (dd := de_193) rfl rfl
/-- EarthOfficeModel again block at 196 -/
theorem t193_11 {x3 x4 : Int} {M : Mem} {Q : AR → Mem → Prop} : Tq 193 11 [vR 22 0, vJ, vJ, vI x3, vI x4, vJ, vJ, vJ, vJ] [] M Q ↔ (Tq 196 0 [vR 22 0, vI x3, vI x4] [] M (kI fun v1 M1 => Tq 193 37 [vJ, vJ, vJ, vJ, vJ, vJ, vJ, vJ, vJ] [] M1 Q)) :=
  Tq_blk (is := bk_193_11) (dd := de_193) rfl rfl
/-- EarthOfficeModel again block at 207 -/
theorem t193_12 {x1 x3 x4 x5 : Int} {M : Mem} {Q : AR → Mem → Prop} : Tq 193 12 [vR 22 0, vI x1, vJ, vI x3, vI x4, vI x5, vJ, vJ, vJ] [] M Q ↔ (Tq 193 13 [vR 22 0, vI x1, vJ, vI x3, vI x4, vI x5, vJ, vJ, vI 0] [] M Q) :=
  Tq_blk (is := bk_193_12) (dd := de_193) rfl rfl
/-- EarthOfficeModel again block at 210 -/
theorem t193_13_c12 {x1 x3 x4 x5 x8 s0 s1 : Int} {M : Mem} {Q : AR → Mem → Prop} : Bq 193 de_193 (List.drop 12 bk_193_13) [vR 22 0, vI x1, vJ, vI x3, vI x4, vI x5, vJ, vJ, vI x8] [vI s0, vI s1, vR 22017 0] M Q ↔ (((0 : Int) ≤ s1 ∧ s1 < 256) ∧ bd (mset M 22017 0 s1 s0) fun M1 => Tq 193 13 [vR 22 0, vI x1, vJ, vI x3, vI x4, vI x5, vJ, vJ, vI (w32 (x8 + 1))] [] M1 Q) :=
  Iff.rfl
theorem t193_13_c6 {x1 x3 x4 x5 x8 s0 : Int} {M : Mem} {Q : AR → Mem → Prop} : Bq 193 de_193 (List.drop 6 bk_193_13) [vR 22 0, vI x1, vJ, vI x3, vI x4, vI x5, vJ, vJ, vI x8] [vI s0, vR 22017 0] M Q ↔ (Tq 194 0 [vR 22 0, vI x1, vI (w32 (3 + x8))] [] M (kI fun v1 M1 => ((0 : Int) ≤ s0 ∧ s0 < 256) ∧ bd (mset M1 22017 0 s0 v1) fun M2 => Tq 193 13 [vR 22 0, vI x1, vJ, vI x3, vI x4, vI x5, vJ, vJ, vI (w32 (x8 + 1))] [] M2 Q)) :=
  (show Bq 193 de_193 (List.drop 6 bk_193_13) [vR 22 0, vI x1, vJ, vI x3, vI x4, vI x5, vJ, vJ, vI x8] [vI s0, vR 22017 0] M Q ↔ (Tq 194 0 [vR 22 0, vI x1, vI (w32 (3 + x8))] [] M (kI fun v1 M1 => Bq 193 de_193 (List.drop 12 bk_193_13) [vR 22 0, vI x1, vJ, vI x3, vI x4, vI x5, vJ, vJ, vI x8] [vI v1, vI s0, vR 22017 0] M1 Q)) from Iff.rfl).trans (by simp only [t193_13_c12])
theorem t193_13 {x1 x3 x4 x5 x8 : Int} {M : Mem} {Q : AR → Mem → Prop} : Tq 193 13 [vR 22 0, vI x1, vJ, vI x3, vI x4, vI x5, vJ, vJ, vI x8] [] M Q ↔ (if x5 ≤ x8 then Tq 193 14 [vR 22 0, vJ, vJ, vI x3, vI x4, vI x5, vJ, vJ, vJ] [] M Q else Tq 194 0 [vR 22 0, vI x1, vI (w32 (3 + x8))] [] M (kI fun v1 M1 => ((0 : Int) ≤ x8 ∧ x8 < 256) ∧ bd (mset M1 22017 0 x8 v1) fun M2 => Tq 193 13 [vR 22 0, vI x1, vJ, vI x3, vI x4, vI x5, vJ, vJ, vI (w32 (x8 + 1))] [] M2 Q)) :=
  (show Tq 193 13 [vR 22 0, vI x1, vJ, vI x3, vI x4, vI x5, vJ, vJ, vI x8] [] M Q ↔ (if x5 ≤ x8 then Tq 193 14 [vR 22 0, vJ, vJ, vI x3, vI x4, vI x5, vJ, vJ, vJ] [] M Q else Bq 193 de_193 (List.drop 6 bk_193_13) [vR 22 0, vI x1, vJ, vI x3, vI x4, vI x5, vJ, vJ, vI x8] [vI x8, vR 22017 0] M Q) from Tq_blk (is := bk_193_13) (dd := de_193) rfl rfl).trans (by simp only [t193_13_c6])
/-- EarthOfficeModel again block at 239 -/
theorem t193_14 {x3 x4 x5 : Int} {M : Mem} {Q : AR → Mem → Prop} : Tq 193 14 [vR 22 0, vJ, vJ, vI x3, vI x4, vI x5, vJ, vJ, vJ] [] M Q ↔ (Tq 204 0 [vR 22 0, vI x3, vI x4, vI x5, vJ, vJ] [] M (kV fun M1 => Tq 193 37 [vJ, vJ, vJ, vJ, vJ, vJ, vJ, vJ, vJ] [] M1 Q)) :=
  Tq_blk (is := bk_193_14) (dd := de_193) rfl rfl
/-- EarthOfficeModel again block at 251 -/
theorem t193_15 {x3 x4 x5 : Int} {M : Mem} {Q : AR → Mem → Prop} : Tq 193 15 [vR 22 0, vJ, vJ, vI x3, vI x4, vI x5, vJ, vJ, vJ] [] M Q ↔ (Tq 205 0 [vR 22 0, vI x3, vI x4, vI x5] [] M (kI fun v1 M1 => Tq 193 37 [vJ, vJ, vJ, vJ, vJ, vJ, vJ, vJ, vJ] [] M1 Q)) :=
  Tq_blk (is := bk_193_15) (dd := de_193) rfl rfl
/-- EarthOfficeModel again block at 264 -/
theorem t193_16 {x1 : Int} {M : Mem} {Q : AR → Mem → Prop} : Tq 193 16 [vR 22 0, vI x1, vJ, vJ, vJ, vJ, vJ, vJ, vJ] [] M Q ↔ (Tq 206 0 [vR 22 0, vI x1, vJ, vJ, vJ] [] M (kV fun M1 => Tq 193 37 [vJ, vJ, vJ, vJ, vJ, vJ, vJ, vJ, vJ] [] M1 Q)) :=
  Tq_blk (is := bk_193_16) (dd := de_193) rfl rfl
/-- EarthOfficeModel again block at 272 -/
theorem t193_17_c19 {x1 x3 x4 x5 x6 x7 : Int} {M : Mem} {Q : AR → Mem → Prop} : Bq 193 de_193 (List.drop 19 bk_193_17) [vR 22 0, vI x1, vJ, vI x3, vI x4, vI x5, vI x6, vI x7, vJ] [] M Q ↔ (Tq 211 0 [vR 22 0, vI x3, vJ] [] M (kV fun M1 => Tq 193 37 [vJ, vJ, vJ, vJ, vJ, vJ, vJ, vJ, vJ] [] M1 Q)) :=
  Iff.rfl
theorem t193_17_c18 {x1 x3 x4 x5 x6 x7 s0 s1 s2 s3 s4 s5 s6 s7 : Int} {M : Mem} {Q : AR → Mem → Prop} : Bq 193 de_193 (List.drop 18 bk_193_17) [vR 22 0, vI x1, vJ, vI x3, vI x4, vI x5, vI x6, vI x7, vJ] [vI s0, vI s1, vI s2, vI s3, vI s4, vI s5, vI s6, vI s7, vR 22 0] M Q ↔ (Tq 208 0 [vR 22 0, vI s7, vI s6, vI s5, vI s4, vI s3, vI s2, vI s1, vI s0, vJ] [] M (kV fun M1 => Tq 211 0 [vR 22 0, vI x3, vJ] [] M1 (kV fun M2 => Tq 193 37 [vJ, vJ, vJ, vJ, vJ, vJ, vJ, vJ, vJ] [] M2 Q))) :=
  (show Bq 193 de_193 (List.drop 18 bk_193_17) [vR 22 0, vI x1, vJ, vI x3, vI x4, vI x5, vI x6, vI x7, vJ] [vI s0, vI s1, vI s2, vI s3, vI s4, vI s5, vI s6, vI s7, vR 22 0] M Q ↔ (Tq 208 0 [vR 22 0, vI s7, vI s6, vI s5, vI s4, vI s3, vI s2, vI s1, vI s0, vJ] [] M (kV fun M1 => Bq 193 de_193 (List.drop 19 bk_193_17) [vR 22 0, vI x1, vJ, vI x3, vI x4, vI x5, vI x6, vI x7, vJ] [] M1 Q)) from Iff.rfl).trans (by simp only [t193_17_c19])
theorem t193_17_c14 {x1 x3 x4 x5 x6 x7 s0 s1 s2 s3 s4 s5 s6 : Int} {M : Mem} {Q : AR → Mem → Prop} : Bq 193 de_193 (List.drop 14 bk_193_17) [vR 22 0, vI x1, vJ, vI x3, vI x4, vI x5, vI x6, vI x7, vJ] [vI s0, vI s1, vI s2, vI s3, vI s4, vI s5, vI s6, vR 22 0] M Q ↔ (Tq 194 0 [vR 22 0, vI x1, vI 7] [] M (kI fun v1 M1 => Tq 208 0 [vR 22 0, vI s6, vI s5, vI s4, vI s3, vI s2, vI s1, vI s0, vI v1, vJ] [] M1 (kV fun M2 => Tq 211 0 [vR 22 0, vI x3, vJ] [] M2 (kV fun M3 => Tq 193 37 [vJ, vJ, vJ, vJ, vJ, vJ, vJ, vJ, vJ] [] M3 Q)))) :=
  (show Bq 193 de_193 (List.drop 14 bk_193_17) [vR 22 0, vI x1, vJ, vI x3, vI x4, vI x5, vI x6, vI x7, vJ] [vI s0, vI s1, vI s2, vI s3, vI s4, vI s5, vI s6, vR 22 0] M Q ↔ (Tq 194 0 [vR 22 0, vI x1, vI 7] [] M (kI fun v1 M1 => Bq 193 de_193 (List.drop 18 bk_193_17) [vR 22 0, vI x1, vJ, vI x3, vI x4, vI x5, vI x6, vI x7, vJ] [vI v1, vI s0, vI s1, vI s2, vI s3, vI s4, vI s5, vI s6, vR 22 0] M1 Q)) from Iff.rfl).trans (by simp only [t193_17_c18])
theorem t193_17_c10 {x1 x3 x4 x5 x6 x7 s0 s1 s2 s3 s4 s5 : Int} {M : Mem} {Q : AR → Mem → Prop} : Bq 193 de_193 (List.drop 10 bk_193_17) [vR 22 0, vI x1, vJ, vI x3, vI x4, vI x5, vI x6, vI x7, vJ] [vI s0, vI s1, vI s2, vI s3, vI s4, vI s5, vR 22 0] M Q ↔ (Tq 194 0 [vR 22 0, vI x1, vI 6] [] M (kI fun v1 M1 => Tq 194 0 [vR 22 0, vI x1, vI 7] [] M1 (kI fun v2 M2 => Tq 208 0 [vR 22 0, vI s5, vI s4, vI s3, vI s2, vI s1, vI s0, vI v1, vI v2, vJ] [] M2 (kV fun M3 => Tq 211 0 [vR 22 0, vI x3, vJ] [] M3 (kV fun M4 => Tq 193 37 [vJ, vJ, vJ, vJ, vJ, vJ, vJ, vJ, vJ] [] M4 Q))))) :=
  (show Bq 193 de_193 (List.drop 10 bk_193_17) [vR 22 0, vI x1, vJ, vI x3, vI x4, vI x5, vI x6, vI x7, vJ] [vI s0, vI s1, vI s2, vI s3, vI s4, vI s5, vR 22 0] M Q ↔ (Tq 194 0 [vR 22 0, vI x1, vI 6] [] M (kI fun v1 M1 => Bq 193 de_193 (List.drop 14 bk_193_17) [vR 22 0, vI x1, vJ, vI x3, vI x4, vI x5, vI x6, vI x7, vJ] [vI v1, vI s0, vI s1, vI s2, vI s3, vI s4, vI s5, vR 22 0] M1 Q)) from Iff.rfl).trans (by simp only [t193_17_c14])
theorem t193_17_c6 {x1 x3 x4 x5 x6 x7 s0 s1 s2 s3 s4 : Int} {M : Mem} {Q : AR → Mem → Prop} : Bq 193 de_193 (List.drop 6 bk_193_17) [vR 22 0, vI x1, vJ, vI x3, vI x4, vI x5, vI x6, vI x7, vJ] [vI s0, vI s1, vI s2, vI s3, vI s4, vR 22 0] M Q ↔ (Tq 194 0 [vR 22 0, vI x1, vI 5] [] M (kI fun v1 M1 => Tq 194 0 [vR 22 0, vI x1, vI 6] [] M1 (kI fun v2 M2 => Tq 194 0 [vR 22 0, vI x1, vI 7] [] M2 (kI fun v3 M3 => Tq 208 0 [vR 22 0, vI s4, vI s3, vI s2, vI s1, vI s0, vI v1, vI v2, vI v3, vJ] [] M3 (kV fun M4 => Tq 211 0 [vR 22 0, vI x3, vJ] [] M4 (kV fun M5 => Tq 193 37 [vJ, vJ, vJ, vJ, vJ, vJ, vJ, vJ, vJ] [] M5 Q)))))) :=
  (show Bq 193 de_193 (List.drop 6 bk_193_17) [vR 22 0, vI x1, vJ, vI x3, vI x4, vI x5, vI x6, vI x7, vJ] [vI s0, vI s1, vI s2, vI s3, vI s4, vR 22 0] M Q ↔ (Tq 194 0 [vR 22 0, vI x1, vI 5] [] M (kI fun v1 M1 => Bq 193 de_193 (List.drop 10 bk_193_17) [vR 22 0, vI x1, vJ, vI x3, vI x4, vI x5, vI x6, vI x7, vJ] [vI v1, vI s0, vI s1, vI s2, vI s3, vI s4, vR 22 0] M1 Q)) from Iff.rfl).trans (by simp only [t193_17_c10])
theorem t193_17 {x1 x3 x4 x5 x6 x7 : Int} {M : Mem} {Q : AR → Mem → Prop} : Tq 193 17 [vR 22 0, vI x1, vJ, vI x3, vI x4, vI x5, vI x6, vI x7, vJ] [] M Q ↔ (Tq 194 0 [vR 22 0, vI x1, vI 5] [] M (kI fun v1 M1 => Tq 194 0 [vR 22 0, vI x1, vI 6] [] M1 (kI fun v2 M2 => Tq 194 0 [vR 22 0, vI x1, vI 7] [] M2 (kI fun v3 M3 => Tq 208 0 [vR 22 0, vI x3, vI x4, vI x5, vI x6, vI x7, vI v1, vI v2, vI v3, vJ] [] M3 (kV fun M4 => Tq 211 0 [vR 22 0, vI x3, vJ] [] M4 (kV fun M5 => Tq 193 37 [vJ, vJ, vJ, vJ, vJ, vJ, vJ, vJ, vJ] [] M5 Q)))))) :=
  (show Tq 193 17 [vR 22 0, vI x1, vJ, vI x3, vI x4, vI x5, vI x6, vI x7, vJ] [] M Q ↔ (Bq 193 de_193 (List.drop 6 bk_193_17) [vR 22 0, vI x1, vJ, vI x3, vI x4, vI x5, vI x6, vI x7, vJ] [vI x7, vI x6, vI x5, vI x4, vI x3, vR 22 0] M Q) from Tq_blk (is := bk_193_17) (dd := de_193) rfl rfl).trans (by simp only [t193_17_c6])
/-- EarthOfficeModel again block at 313 -/
theorem t193_18 {x3 x4 : Int} {M : Mem} {Q : AR → Mem → Prop} : Tq 193 18 [vR 22 0, vJ, vJ, vI x3, vI x4, vJ, vJ, vJ, vJ] [] M Q ↔ (Tq 212 0 [vR 22 0, vI x3, vI x4, vJ, vJ, vJ, vJ, vJ, vJ] [] M (kI fun v1 M1 => Tq 193 37 [vJ, vJ, vJ, vJ, vJ, vJ, vJ, vJ, vJ] [] M1 Q)) :=
  Tq_blk (is := bk_193_18) (dd := de_193) rfl rfl
/-- EarthOfficeModel again block at 324 -/
theorem t193_19 {x3 x4 : Int} {M : Mem} {Q : AR → Mem → Prop} : Tq 193 19 [vR 22 0, vJ, vJ, vI x3, vI x4, vJ, vJ, vJ, vJ] [] M Q ↔ (Tq 214 0 [vR 22 0, vI x3, vI x4, vJ] [] M (kI fun v1 M1 => Tq 193 37 [vJ, vJ, vJ, vJ, vJ, vJ, vJ, vJ, vJ] [] M1 Q)) :=
  Tq_blk (is := bk_193_19) (dd := de_193) rfl rfl
/-- EarthOfficeModel again block at 335 -/
theorem t193_20 {x3 x4 : Int} {M : Mem} {Q : AR → Mem → Prop} : Tq 193 20 [vR 22 0, vJ, vJ, vI x3, vI x4, vJ, vJ, vJ, vJ] [] M Q ↔ (Tq 215 0 [vR 22 0, vI x3, vI x4, vJ] [] M (kI fun v1 M1 => Tq 193 37 [vJ, vJ, vJ, vJ, vJ, vJ, vJ, vJ, vJ] [] M1 Q)) :=
  Tq_blk (is := bk_193_20) (dd := de_193) rfl rfl
/-- EarthOfficeModel again block at 346 -/
theorem t193_21 {x3 x4 x5 x6 : Int} {M : Mem} {Q : AR → Mem → Prop} : Tq 193 21 [vR 22 0, vJ, vJ, vI x3, vI x4, vI x5, vI x6, vJ, vJ] [] M Q ↔ (Tq 217 0 [vR 22 0, vI x3, vI x4, vI x5, vI x6, vJ] [] M (kI fun v1 M1 => Tq 193 37 [vJ, vJ, vJ, vJ, vJ, vJ, vJ, vJ, vJ] [] M1 Q)) :=
  Tq_blk (is := bk_193_21) (dd := de_193) rfl rfl
/-- EarthOfficeModel again block at 361 -/
theorem t193_22 {x3 x4 x5 : Int} {M : Mem} {Q : AR → Mem → Prop} : Tq 193 22 [vR 22 0, vJ, vJ, vI x3, vI x4, vI x5, vJ, vJ, vJ] [] M Q ↔ (Tq 218 0 [vR 22 0, vI x3, vI x4, vI x5] [] M (kI fun v1 M1 => Tq 193 37 [vJ, vJ, vJ, vJ, vJ, vJ, vJ, vJ, vJ] [] M1 Q)) :=
  Tq_blk (is := bk_193_22) (dd := de_193) rfl rfl
/-- EarthOfficeModel again block at 374 -/
theorem t193_23 {x1 x2 : Int} {M : Mem} {Q : AR → Mem → Prop} : Tq 193 23 [vR 22 0, vI x1, vI x2, vJ, vJ, vJ, vJ, vJ, vJ] [] M Q ↔ (Tq 193 24 [vR 22 0, vI x1, vI x2, vJ, vJ, vJ, vJ, vJ, vI 0] [] M Q) :=
  Tq_blk (is := bk_193_23) (dd := de_193) rfl rfl
/-- EarthOfficeModel again block at 377 -/
theorem t193_24_c12 {x1 x2 x8 s0 s1 s3 s4 : Int} {M : Mem} {Q : AR → Mem → Prop} : Bq 193 de_193 (List.drop 12 bk_193_24) [vR 22 0, vI x1, vI x2, vJ, vJ, vJ, vJ, vJ, vI x8] [vI s0, vI s1, vR 22008 0, vI s3, vR 22099 s4] M Q ↔ (((0 : Int) ≤ w32 (w32 (s1 + s0) + x8) ∧ w32 (w32 (s1 + s0) + x8) < 60000) ∧ ((0 : Int) ≤ s3 ∧ s3 < 400) ∧ bd (mset M 22099 s4 s3 (w8 (M 22008 0 (w32 (w32 (s1 + s0) + x8))))) fun M1 => Tq 193 24 [vR 22 0, vI x1, vI x2, vJ, vJ, vJ, vJ, vJ, vI (w32 (x8 + 1))] [] M1 Q) :=
  Iff.rfl
theorem t193_24_c6 {x1 x2 x8 : Int} {M : Mem} {Q : AR → Mem → Prop} : Bq 193 de_193 (List.drop 6 bk_193_24) [vR 22 0, vI x1, vI x2, vJ, vJ, vJ, vJ, vJ, vI x8] [vR 22 0] M Q ↔ (((0 : Int) ≤ w32 (w32 (x1 + 1) + x8) ∧ w32 (w32 (x1 + 1) + x8) < 60000) ∧ ((0 : Int) ≤ x8 ∧ x8 < 400) ∧ bd (mset M 22099 8 x8 (w8 (M 22008 0 (w32 (w32 (x1 + 1) + x8))))) fun M1 => Tq 193 24 [vR 22 0, vI x1, vI x2, vJ, vJ, vJ, vJ, vJ, vI (w32 (x8 + 1))] [] M1 Q) :=
  (show Bq 193 de_193 (List.drop 6 bk_193_24) [vR 22 0, vI x1, vI x2, vJ, vJ, vJ, vJ, vJ, vI x8] [vR 22 0] M Q ↔ (Bq 193 de_193 (List.drop 12 bk_193_24) [vR 22 0, vI x1, vI x2, vJ, vJ, vJ, vJ, vJ, vI x8] [vI 1, vI x1, vR 22008 0, vI x8, vR 22099 8] M Q) from Iff.rfl).trans (by simp only [t193_24_c12])
theorem t193_24 {x1 x2 x8 : Int} {M : Mem} {Q : AR → Mem → Prop} : Tq 193 24 [vR 22 0, vI x1, vI x2, vJ, vJ, vJ, vJ, vJ, vI x8] [] M Q ↔ (if w32 (x2 - 1) ≤ x8 then Tq 193 25 [vR 22 0, vJ, vI x2, vJ, vJ, vJ, vJ, vJ, vJ] [] M Q else ((0 : Int) ≤ w32 (w32 (x1 + 1) + x8) ∧ w32 (w32 (x1 + 1) + x8) < 60000) ∧ ((0 : Int) ≤ x8 ∧ x8 < 400) ∧ bd (mset M 22099 8 x8 (w8 (M 22008 0 (w32 (w32 (x1 + 1) + x8))))) fun M1 => Tq 193 24 [vR 22 0, vI x1, vI x2, vJ, vJ, vJ, vJ, vJ, vI (w32 (x8 + 1))] [] M1 Q) :=
  (show Tq 193 24 [vR 22 0, vI x1, vI x2, vJ, vJ, vJ, vJ, vJ, vI x8] [] M Q ↔ (if w32 (x2 - 1) ≤ x8 then Tq 193 25 [vR 22 0, vJ, vI x2, vJ, vJ, vJ, vJ, vJ, vJ] [] M Q else Bq 193 de_193 (List.drop 6 bk_193_24) [vR 22 0, vI x1, vI x2, vJ, vJ, vJ, vJ, vJ, vI x8] [vR 22 0] M Q) from Tq_blk (is := bk_193_24) (dd := de_193) rfl rfl).trans (by simp only [t193_24_c6])
/-- EarthOfficeModel again block at 409 -/
theorem t193_25 {x2 : Int} {M : Mem} {Q : AR → Mem → Prop} : Tq 193 25 [vR 22 0, vJ, vI x2, vJ, vJ, vJ, vJ, vJ, vJ] [] M Q ↔ (bd (mset M 22 0 3 (w32 (x2 - 1))) fun M1 => Tq 220 0 [vR 22 0, vJ, vJ, vJ] [] M1 (kI fun v1 M2 => Tq 193 37 [vJ, vJ, vJ, vJ, vJ, vJ, vJ, vJ, vJ] [] M2 Q)) :=
  Tq_blk (is := bk_193_25) (dd := de_193) rfl rfl
/-- EarthOfficeModel again block at 424 -/
theorem t193_26 {x3 x4 x5 x6 x7 : Int} {M : Mem} {Q : AR → Mem → Prop} : Tq 193 26 [vR 22 0, vJ, vJ, vI x3, vI x4, vI x5, vI x6, vI x7, vJ] [] M Q ↔ (if x7 = 0 then Tq 193 27 [vJ, vJ, vJ, vJ, vJ, vJ, vJ, vJ, vJ] [vI x6, vI x5, vI x4, vI x3, vR 22 0] M Q else Tq 193 28 [vJ, vJ, vJ, vJ, vJ, vJ, vJ, vJ, vJ] [vI 1, vI x6, vI x5, vI x4, vI x3, vR 22 0] M Q) :=
  Tq_blk (is := bk_193_26) (dd := de_193) rfl rfl
/-- EarthOfficeModel again block at 441 -/
theorem t193_27 {s0 s1 s2 s3 : Int} {M : Mem} {Q : AR → Mem → Prop} : Tq 193 27 [vJ, vJ, vJ, vJ, vJ, vJ, vJ, vJ, vJ] [vI s0, vI s1, vI s2, vI s3, vR 22 0] M Q ↔ (Tq 193 28 [vJ, vJ, vJ, vJ, vJ, vJ, vJ, vJ, vJ] [vI 0, vI s0, vI s1, vI s2, vI s3, vR 22 0] M Q) :=
  Tq_blk (is := bk_193_27) (dd := de_193) rfl rfl
/-- EarthOfficeModel again block at 442 -/
theorem t193_28 {s0 s1 s2 s3 s4 : Int} {M : Mem} {Q : AR → Mem → Prop} : Tq 193 28 [vJ, vJ, vJ, vJ, vJ, vJ, vJ, vJ, vJ] [vI s0, vI s1, vI s2, vI s3, vI s4, vR 22 0] M Q ↔ (Tq 254 0 [vR 22 0, vI s4, vI s3, vI s2, vI s1, vI s0] [] M (kI fun v1 M1 => Tq 193 37 [vJ, vJ, vJ, vJ, vJ, vJ, vJ, vJ, vJ] [] M1 Q)) :=
  Tq_blk (is := bk_193_28) (dd := de_193) rfl rfl
/-- EarthOfficeModel again block at 449 -/
theorem t193_29 {x3 x4 : Int} {M : Mem} {Q : AR → Mem → Prop} : Tq 193 29 [vR 22 0, vJ, vJ, vI x3, vI x4, vJ, vJ, vJ, vJ] [] M Q ↔ (if x4 = 0 then Tq 193 30 [vJ, vJ, vJ, vJ, vJ, vJ, vJ, vJ, vJ] [vI x3, vR 22 0] M Q else Tq 193 31 [vJ, vJ, vJ, vJ, vJ, vJ, vJ, vJ, vJ] [vI 1, vI x3, vR 22 0] M Q) :=
  Tq_blk (is := bk_193_29) (dd := de_193) rfl rfl
/-- EarthOfficeModel again block at 460 -/
theorem t193_30 {s0 : Int} {M : Mem} {Q : AR → Mem → Prop} : Tq 193 30 [vJ, vJ, vJ, vJ, vJ, vJ, vJ, vJ, vJ] [vI s0, vR 22 0] M Q ↔ (Tq 193 31 [vJ, vJ, vJ, vJ, vJ, vJ, vJ, vJ, vJ] [vI 0, vI s0, vR 22 0] M Q) :=
  Tq_blk (is := bk_193_30) (dd := de_193) rfl rfl
/-- EarthOfficeModel again block at 461 -/
theorem t193_31 {s0 s1 : Int} {M : Mem} {Q : AR → Mem → Prop} : Tq 193 31 [vJ, vJ, vJ, vJ, vJ, vJ, vJ, vJ, vJ] [vI s0, vI s1, vR 22 0] M Q ↔ (Tq 255 0 [vR 22 0, vI s1, vI s0, vJ] [] M (kI fun v1 M1 => Tq 193 37 [vJ, vJ, vJ, vJ, vJ, vJ, vJ, vJ, vJ] [] M1 Q)) :=
  Tq_blk (is := bk_193_31) (dd := de_193) rfl rfl
/-- EarthOfficeModel again block at 468 -/
theorem t193_32 {x3 : Int} {M : Mem} {Q : AR → Mem → Prop} : Tq 193 32 [vR 22 0, vJ, vJ, vI x3, vJ, vJ, vJ, vJ, vJ] [] M Q ↔ (if x3 = 0 then Tq 193 33 [vJ, vJ, vJ, vJ, vJ, vJ, vJ, vJ, vJ] [vR 22 0] M Q else Tq 193 34 [vJ, vJ, vJ, vJ, vJ, vJ, vJ, vJ, vJ] [vI 1, vR 22 0] M Q) :=
  Tq_blk (is := bk_193_32) (dd := de_193) rfl rfl
/-- EarthOfficeModel again block at 477 -/
theorem t193_33 {M : Mem} {Q : AR → Mem → Prop} : Tq 193 33 [vJ, vJ, vJ, vJ, vJ, vJ, vJ, vJ, vJ] [vR 22 0] M Q ↔ (Tq 193 34 [vJ, vJ, vJ, vJ, vJ, vJ, vJ, vJ, vJ] [vI 0, vR 22 0] M Q) :=
  Tq_blk (is := bk_193_33) (dd := de_193) rfl rfl
/-- EarthOfficeModel again block at 478 -/
theorem t193_34 {s0 : Int} {M : Mem} {Q : AR → Mem → Prop} : Tq 193 34 [vJ, vJ, vJ, vJ, vJ, vJ, vJ, vJ, vJ] [vI s0, vR 22 0] M Q ↔ (Tq 256 0 [vR 22 0, vI s0, vJ] [] M (kI fun v1 M1 => Tq 193 37 [vJ, vJ, vJ, vJ, vJ, vJ, vJ, vJ, vJ] [] M1 Q)) :=
  Tq_blk (is := bk_193_34) (dd := de_193) rfl rfl
/-- EarthOfficeModel again block at 485 -/
theorem t193_35 {x3 : Int} {M : Mem} {Q : AR → Mem → Prop} : Tq 193 35 [vR 22 0, vJ, vJ, vI x3, vJ, vJ, vJ, vJ, vJ] [] M Q ↔ (Tq 257 0 [vR 22 0, vI x3, vJ, vJ] [] M (kI fun v1 M1 => Tq 193 37 [vJ, vJ, vJ, vJ, vJ, vJ, vJ, vJ, vJ] [] M1 Q)) :=
  Tq_blk (is := bk_193_35) (dd := de_193) rfl rfl
/-- EarthOfficeModel again block at 494 -/
theorem t193_36 {x3 : Int} {M : Mem} {Q : AR → Mem → Prop} : Tq 193 36 [vR 22 0, vJ, vJ, vI x3, vJ, vJ, vJ, vJ, vJ] [] M Q ↔ (Tq 268 0 [vR 22 0, vI x3] [] M (kI fun v1 M1 => Tq 193 37 [vJ, vJ, vJ, vJ, vJ, vJ, vJ, vJ, vJ] [] M1 Q)) :=
  Tq_blk (is := bk_193_36) (dd := de_193) rfl rfl
/-- EarthOfficeModel again block at 500 -/
theorem t193_37 {M : Mem} {Q : AR → Mem → Prop} : Tq 193 37 [vJ, vJ, vJ, vJ, vJ, vJ, vJ, vJ, vJ] [] M Q ↔ (Q (.inl none) M) :=
  Tq_blk (is := bk_193_37) (dd := de_193) rfl rfl
/-- EarthOfficeModel told block at 0 -/
theorem t194_0 {x1 x2 : Int} {M : Mem} {Q : AR → Mem → Prop} : Tq 194 0 [vR 22 0, vI x1, vI x2] [] M Q ↔ (Tq 195 0 [vR 22008 0, vI (w32 (w32 (x1 + 1) + w32 (4 * x2)))] [] M (kI fun v1 M1 => Q (.inl (some (vI v1))) M1)) :=
  Tq_blk (is := bk_194_0) (dd := de_194) rfl rfl
/-- EarthOfficeModel four block at 0 -/
theorem t195_0_22008 {x1 : Int} {M : Mem} {Q : AR → Mem → Prop} : Tq 195 0 [vR 22008 0, vI x1] [] M Q ↔ (Tq 192 0 [vR 22008 0, vI x1] [] M (kI fun v1 M1 => Tq 192 0 [vR 22008 0, vI (w32 (x1 + 2))] [] M1 (kI fun v2 M2 => Q (.inl (some (vI (or32 (shl32 v1 16) v2)))) M2))) :=
  Tq_blk (is := bk_195_0) (dd := de_195) rfl rfl
/-- EarthOfficeModel four block at 0 -/
theorem t195_0_22016 {x1 : Int} {M : Mem} {Q : AR → Mem → Prop} : Tq 195 0 [vR 22016 0, vI x1] [] M Q ↔ (Tq 192 0 [vR 22016 0, vI x1] [] M (kI fun v1 M1 => Tq 192 0 [vR 22016 0, vI (w32 (x1 + 2))] [] M1 (kI fun v2 M2 => Q (.inl (some (vI (or32 (shl32 v1 16) v2)))) M2))) :=
  Tq_blk (is := bk_195_0) (dd := de_195) rfl rfl
/-- EarthOfficeModel station block at 0 -/
theorem t196_0 {x1 x2 : Int} {M : Mem} {Q : AR → Mem → Prop} : Tq 196 0 [vR 22 0, vI x1, vI x2] [] M Q ↔ (Tq 197 0 [vI x1, vI x2] [] M (kI fun v1 M1 => if ¬ v1 = 0 then Tq 196 1 [vR 22 0, vI x1, vI x2] [] M1 Q else Q (.inl (some (vI (-1)))) M1)) :=
  Tq_blk (is := bk_196_0) (dd := de_196) rfl rfl
/-- EarthOfficeModel station block at 10 -/
theorem t196_1 {x1 x2 : Int} {M : Mem} {Q : AR → Mem → Prop} : Tq 196 1 [vR 22 0, vI x1, vI x2] [] M Q ↔ (if M 22 0 9 = (12 : Int) then Tq 196 2 [vJ, vJ, vJ] [] M Q else Tq 198 0 [vR 22 0, vI 9] [] M (kI fun v1 M1 => if ¬ v1 = 0 then Tq 196 3 [vR 22 0, vI x1, vI x2] [] M1 Q else Tq 196 2 [vJ, vJ, vJ] [] M1 Q)) :=
  Tq_blk (is := bk_196_1) (dd := de_196) rfl rfl
/-- EarthOfficeModel station block at 28 -/
theorem t196_2 {M : Mem} {Q : AR → Mem → Prop} : Tq 196 2 [vJ, vJ, vJ] [] M Q ↔ (Q (.inl (some (vI (-3)))) M) :=
  Tq_blk (is := bk_196_2) (dd := de_196) rfl rfl
/-- EarthOfficeModel station block at 31 -/
theorem t196_3 {x1 x2 : Int} {M : Mem} {Q : AR → Mem → Prop} : Tq 196 3 [vR 22 0, vI x1, vI x2] [] M Q ↔ (((0 : Int) ≤ M 22 0 9 ∧ M 22 0 9 < 12) ∧ bd (mset M 22010 0 (M 22 0 9) x1) fun M1 => ((0 : Int) ≤ M1 22 0 9 ∧ M1 22 0 9 < 12) ∧ bd (mset M1 22011 0 (M1 22 0 9) x2) fun M2 => bd (mset M2 22 0 9 (w32 (M2 22 0 9 + 1))) fun M3 => Tq 199 0 [vR 22 0, vI 83, vI 2, vI x1, vI x2, vI 0, vI 0, vI 0, vJ] [] M3 (kV fun M4 => Q (.inl (some (vI (w32 (M4 22 0 9 - 1))))) M4)) :=
  Tq_blk (is := bk_196_3) (dd := de_196) rfl rfl
/-- EarthOfficeModel isPlace block at 0 -/
theorem t197_0 {x0 x1 : Int} {M : Mem} {Q : AR → Mem → Prop} : Tq 197 0 [vI x0, vI x1] [] M Q ↔ (Tq 189 0 [vI x0, vI 0, vI 63] [] M (kI fun v1 M1 => if v1 = 0 then Tq 197 1 [vJ, vJ] [] M1 Q else Tq 189 0 [vI x1, vI 0, vI 63] [] M1 (kI fun v2 M2 => if v2 = 0 then Tq 197 1 [vJ, vJ] [] M2 Q else Tq 197 2 [vJ, vJ] [vI 1] M2 Q))) :=
  Tq_blk (is := bk_197_0) (dd := de_197) rfl rfl
/-- EarthOfficeModel isPlace block at 24 -/
theorem t197_1 {M : Mem} {Q : AR → Mem → Prop} : Tq 197 1 [vJ, vJ] [] M Q ↔ (Tq 197 2 [vJ, vJ] [vI 0] M Q) :=
  Tq_blk (is := bk_197_1) (dd := de_197) rfl rfl
/-- EarthOfficeModel isPlace block at 25 -/
theorem t197_2 {s0 : Int} {M : Mem} {Q : AR → Mem → Prop} : Tq 197 2 [vJ, vJ] [vI s0] M Q ↔ (Q (.inl (some (vI (nb s0)))) M) :=
  Tq_blk (is := bk_197_2) (dd := de_197) rfl rfl
/-- EarthOfficeModel hasRoom block at 0 -/
theorem t198_0 {x1 : Int} {M : Mem} {Q : AR → Mem → Prop} : Tq 198 0 [vR 22 0, vI x1] [] M Q ↔ (if (60000 : Int) < w32 (w32 (M 22 0 5 + x1) + 6) then Tq 198 1 [vJ, vJ] [] M Q else Tq 198 2 [vJ, vJ] [vI 1] M Q) :=
  Tq_blk (is := bk_198_0) (dd := de_198) rfl rfl
/-- EarthOfficeModel hasRoom block at 18 -/
theorem t198_1 {M : Mem} {Q : AR → Mem → Prop} : Tq 198 1 [vJ, vJ] [] M Q ↔ (Tq 198 2 [vJ, vJ] [vI 0] M Q) :=
  Tq_blk (is := bk_198_1) (dd := de_198) rfl rfl
/-- EarthOfficeModel hasRoom block at 19 -/
theorem t198_2 {s0 : Int} {M : Mem} {Q : AR → Mem → Prop} : Tq 198 2 [vJ, vJ] [vI s0] M Q ↔ (Q (.inl (some (vI (nb s0)))) M) :=
  Tq_blk (is := bk_198_2) (dd := de_198) rfl rfl
/-- EarthOfficeModel notes block at 0 -/
theorem t199_0 {x1 x2 x3 x4 x5 x6 x7 : Int} {M : Mem} {Q : AR → Mem → Prop} : Tq 199 0 [vR 22 0, vI x1, vI x2, vI x3, vI x4, vI x5, vI x6, vI x7, vJ] [] M Q ↔ (Tq 200 0 [vR 22 0, vI x1] [] M (kV fun M1 => Tq 199 1 [vR 22 0, vJ, vI x2, vI x3, vI x4, vI x5, vI x6, vI x7, vI 0] [] M1 Q)) :=
  Tq_blk (is := bk_199_0) (dd := de_199) rfl rfl
/-- EarthOfficeModel notes block at 8 -/
theorem t199_1 {x2 x3 x4 x5 x6 x7 x8 : Int} {M : Mem} {Q : AR → Mem → Prop} : Tq 199 1 [vR 22 0, vJ, vI x2, vI x3, vI x4, vI x5, vI x6, vI x7, vI x8] [] M Q ↔ (if x2 ≤ x8 then Tq 199 7 [vR 22 0, vJ, vJ, vJ, vJ, vJ, vJ, vJ, vJ] [] M Q else if ¬ x8 = 0 then Tq 199 2 [vR 22 0, vJ, vI x2, vI x3, vI x4, vI x5, vI x6, vI x7, vI x8] [vR 22 0] M Q else Tq 199 6 [vR 22 0, vJ, vI x2, vI x3, vI x4, vI x5, vI x6, vI x7, vI x8] [vI x3, vR 22 0] M Q) :=
  Tq_blk (is := bk_199_1) (dd := de_199) rfl rfl
/-- EarthOfficeModel notes block at 24 -/
theorem t199_2 {x2 x3 x4 x5 x6 x7 x8 : Int} {M : Mem} {Q : AR → Mem → Prop} : Tq 199 2 [vR 22 0, vJ, vI x2, vI x3, vI x4, vI x5, vI x6, vI x7, vI x8] [vR 22 0] M Q ↔ (if ¬ x8 = (1 : Int) then Tq 199 3 [vR 22 0, vJ, vI x2, vI x3, vI x4, vI x5, vI x6, vI x7, vI x8] [vR 22 0] M Q else Tq 199 6 [vR 22 0, vJ, vI x2, vI x3, vI x4, vI x5, vI x6, vI x7, vI x8] [vI x4, vR 22 0] M Q) :=
  Tq_blk (is := bk_199_2) (dd := de_199) rfl rfl
/-- EarthOfficeModel notes block at 35 -/
theorem t199_3 {x2 x3 x4 x5 x6 x7 x8 : Int} {M : Mem} {Q : AR → Mem → Prop} : Tq 199 3 [vR 22 0, vJ, vI x2, vI x3, vI x4, vI x5, vI x6, vI x7, vI x8] [vR 22 0] M Q ↔ (if ¬ x8 = (2 : Int) then Tq 199 4 [vR 22 0, vJ, vI x2, vI x3, vI x4, vI x5, vI x6, vI x7, vI x8] [vR 22 0] M Q else Tq 199 6 [vR 22 0, vJ, vI x2, vI x3, vI x4, vI x5, vI x6, vI x7, vI x8] [vI x5, vR 22 0] M Q) :=
  Tq_blk (is := bk_199_3) (dd := de_199) rfl rfl
/-- EarthOfficeModel notes block at 46 -/
theorem t199_4 {x2 x3 x4 x5 x6 x7 x8 : Int} {M : Mem} {Q : AR → Mem → Prop} : Tq 199 4 [vR 22 0, vJ, vI x2, vI x3, vI x4, vI x5, vI x6, vI x7, vI x8] [vR 22 0] M Q ↔ (if ¬ x8 = (3 : Int) then Tq 199 5 [vR 22 0, vJ, vI x2, vI x3, vI x4, vI x5, vI x6, vI x7, vI x8] [vR 22 0] M Q else Tq 199 6 [vR 22 0, vJ, vI x2, vI x3, vI x4, vI x5, vI x6, vI x7, vI x8] [vI x6, vR 22 0] M Q) :=
  Tq_blk (is := bk_199_4) (dd := de_199) rfl rfl
/-- EarthOfficeModel notes block at 57 -/
theorem t199_5 {x2 x3 x4 x5 x6 x7 x8 : Int} {M : Mem} {Q : AR → Mem → Prop} : Tq 199 5 [vR 22 0, vJ, vI x2, vI x3, vI x4, vI x5, vI x6, vI x7, vI x8] [vR 22 0] M Q ↔ (Tq 199 6 [vR 22 0, vJ, vI x2, vI x3, vI x4, vI x5, vI x6, vI x7, vI x8] [vI x7, vR 22 0] M Q) :=
  Tq_blk (is := bk_199_5) (dd := de_199) rfl rfl
/-- EarthOfficeModel notes block at 59 -/
theorem t199_6 {x2 x3 x4 x5 x6 x7 x8 s0 : Int} {M : Mem} {Q : AR → Mem → Prop} : Tq 199 6 [vR 22 0, vJ, vI x2, vI x3, vI x4, vI x5, vI x6, vI x7, vI x8] [vI s0, vR 22 0] M Q ↔ (Tq 201 0 [vR 22 0, vI s0] [] M (kV fun M1 => Tq 199 1 [vR 22 0, vJ, vI x2, vI x3, vI x4, vI x5, vI x6, vI x7, vI (w32 (x8 + 1))] [] M1 Q)) :=
  Tq_blk (is := bk_199_6) (dd := de_199) rfl rfl
/-- EarthOfficeModel notes block at 68 -/
theorem t199_7 {M : Mem} {Q : AR → Mem → Prop} : Tq 199 7 [vR 22 0, vJ, vJ, vJ, vJ, vJ, vJ, vJ, vJ] [] M Q ↔ (Tq 202 0 [vR 22 0] [] M (kV fun M1 => Q (.inl none) M1)) :=
  Tq_blk (is := bk_199_7) (dd := de_199) rfl rfl
/-- EarthOfficeModel opens block at 0 -/
theorem t200_0 {x1 : Int} {M : Mem} {Q : AR → Mem → Prop} : Tq 200 0 [vR 22 0, vI x1] [] M Q ↔ (((0 : Int) ≤ w32 (M 22 0 5 + 2) ∧ w32 (M 22 0 5 + 2) < 61000) ∧ bd (mset M 22004 0 (w32 (M 22 0 5 + 2)) (w8 (w8 x1))) fun M1 => bd (mset M1 22 0 7 1) fun M2 => Q (.inl none) M2) :=
  Tq_blk (is := bk_200_0) (dd := de_200) rfl rfl
/-- EarthOfficeModel tells block at 0 -/
theorem t201_0 {x1 : Int} {M : Mem} {Q : AR → Mem → Prop} : Tq 201 0 [vR 22 0, vI x1] [] M Q ↔ (Tq 185 0 [vR 22004 0, vI (w32 (w32 (M 22 0 5 + 2) + M 22 0 7)), vI x1] [] M (kV fun M1 => bd (mset M1 22 0 7 (w32 (M1 22 0 7 + 4))) fun M2 => Q (.inl none) M2)) :=
  Tq_blk (is := bk_201_0) (dd := de_201) rfl rfl
/-- EarthOfficeModel closes block at 0 -/
theorem t202_0 {M : Mem} {Q : AR → Mem → Prop} : Tq 202 0 [vR 22 0] [] M Q ↔ (Tq 186 0 [vR 22004 0, vI (M 22 0 5), vI (M 22 0 7)] [] M (kV fun M1 => Tq 203 0 [vR 22004 0, vI (w32 (M1 22 0 5 + 2)), vI (M1 22 0 7), vJ, vJ] [] M1 (kI fun v1 M2 => Tq 185 0 [vR 22004 0, vI (w32 (w32 (M1 22 0 5 + 2) + M1 22 0 7)), vI v1] [] M2 (kV fun M3 => bd (mset M3 22 0 5 (w32 (M3 22 0 5 + w32 (M3 22 0 7 + 6)))) fun M4 => bd (mset M4 22 0 6 (w32 (M4 22 0 6 + 1))) fun M5 => Q (.inl none) M5)))) :=
  Tq_blk (is := bk_202_0) (dd := de_202) rfl rfl
/-- EarthOfficeModel sumOf block at 0 -/
theorem t203_0_22004 {x1 x2 : Int} {M : Mem} {Q : AR → Mem → Prop} : Tq 203 0 [vR 22004 0, vI x1, vI x2, vJ, vJ] [] M Q ↔ (Tq 203 1 [vR 22004 0, vI x1, vI x2, vI 0, vI 0] [] M Q) :=
  Tq_blk (is := bk_203_0) (dd := de_203) rfl rfl
/-- EarthOfficeModel sumOf block at 5 -/
theorem t203_1_22004 {x1 x2 x3 x4 : Int} {M : Mem} {Q : AR → Mem → Prop} : Tq 203 1 [vR 22004 0, vI x1, vI x2, vI x3, vI x4] [] M Q ↔ (if x2 ≤ x4 then Tq 203 2 [vJ, vJ, vJ, vI x3, vJ] [] M Q else ((0 : Int) ≤ w32 (x1 + x4) ∧ w32 (x1 + x4) < 61000) ∧ Tq 203 1 [vR 22004 0, vI x1, vI x2, vI (w32 ((or32 (shl32 (xor32 x3 (and32 (M 22004 0 (w32 (x1 + x4))) 255)) 17) (ush32 (xor32 x3 (and32 (M 22004 0 (w32 (x1 + x4))) 255)) 15)) * 374761393)), vI (w32 (x4 + 1))] [] M Q) :=
  Tq_blk (is := bk_203_1) (dd := de_203) rfl rfl
/-- EarthOfficeModel sumOf block at 44 -/
theorem t203_2_22004 {x3 : Int} {M : Mem} {Q : AR → Mem → Prop} : Tq 203 2 [vJ, vJ, vJ, vI x3, vJ] [] M Q ↔ (Q (.inl (some (vI x3))) M) :=
  Tq_blk (is := bk_203_2) (dd := de_203) rfl rfl
/-- EarthOfficeModel sumOf block at 0 -/
theorem t203_0_22016 {x1 x2 : Int} {M : Mem} {Q : AR → Mem → Prop} : Tq 203 0 [vR 22016 0, vI x1, vI x2, vJ, vJ] [] M Q ↔ (Tq 203 1 [vR 22016 0, vI x1, vI x2, vI 0, vI 0] [] M Q) :=
  Tq_blk (is := bk_203_0) (dd := de_203) rfl rfl
/-- EarthOfficeModel sumOf block at 5 -/
theorem t203_1_22016 {x1 x2 x3 x4 : Int} {M : Mem} {Q : AR → Mem → Prop} : Tq 203 1 [vR 22016 0, vI x1, vI x2, vI x3, vI x4] [] M Q ↔ (if x2 ≤ x4 then Tq 203 2 [vJ, vJ, vJ, vI x3, vJ] [] M Q else ((0 : Int) ≤ w32 (x1 + x4) ∧ w32 (x1 + x4) < 4000) ∧ Tq 203 1 [vR 22016 0, vI x1, vI x2, vI (w32 ((or32 (shl32 (xor32 x3 (and32 (M 22016 0 (w32 (x1 + x4))) 255)) 17) (ush32 (xor32 x3 (and32 (M 22016 0 (w32 (x1 + x4))) 255)) 15)) * 374761393)), vI (w32 (x4 + 1))] [] M Q) :=
  Tq_blk (is := bk_203_1) (dd := de_203) rfl rfl
/-- EarthOfficeModel sumOf block at 44 -/
theorem t203_2_22016 {x3 : Int} {M : Mem} {Q : AR → Mem → Prop} : Tq 203 2 [vJ, vJ, vJ, vI x3, vJ] [] M Q ↔ (Q (.inl (some (vI x3))) M) :=
  Tq_blk (is := bk_203_2) (dd := de_203) rfl rfl
/-- EarthOfficeModel sumOf block at 0 -/
theorem t203_0_22099 {x0 x1 x2 : Int} {M : Mem} {Q : AR → Mem → Prop} : Tq 203 0 [vR 22099 x0, vI x1, vI x2, vJ, vJ] [] M Q ↔ (Tq 203 1 [vR 22099 x0, vI x1, vI x2, vI 0, vI 0] [] M Q) :=
  Tq_blk (is := bk_203_0) (dd := de_203) rfl rfl
/-- EarthOfficeModel sumOf block at 5 -/
theorem t203_1_22099 {x0 x1 x2 x3 x4 : Int} {M : Mem} {Q : AR → Mem → Prop} : Tq 203 1 [vR 22099 x0, vI x1, vI x2, vI x3, vI x4] [] M Q ↔ (if x2 ≤ x4 then Tq 203 2 [vJ, vJ, vJ, vI x3, vJ] [] M Q else ((0 : Int) ≤ w32 (x1 + x4) ∧ w32 (x1 + x4) < 400) ∧ Tq 203 1 [vR 22099 x0, vI x1, vI x2, vI (w32 ((or32 (shl32 (xor32 x3 (and32 (M 22099 x0 (w32 (x1 + x4))) 255)) 17) (ush32 (xor32 x3 (and32 (M 22099 x0 (w32 (x1 + x4))) 255)) 15)) * 374761393)), vI (w32 (x4 + 1))] [] M Q) :=
  Tq_blk (is := bk_203_1) (dd := de_203) rfl rfl
/-- EarthOfficeModel sumOf block at 44 -/
theorem t203_2_22099 {x3 : Int} {M : Mem} {Q : AR → Mem → Prop} : Tq 203 2 [vJ, vJ, vJ, vI x3, vJ] [] M Q ↔ (Q (.inl (some (vI x3))) M) :=
  Tq_blk (is := bk_203_2) (dd := de_203) rfl rfl
/-- EarthOfficeModel keeps block at 0 -/
theorem t204_0 {x1 x2 x3 : Int} {M : Mem} {Q : AR → Mem → Prop} : Tq 204 0 [vR 22 0, vI x1, vI x2, vI x3, vJ, vJ] [] M Q ↔ (Tq 200 0 [vR 22 0, vI 82] [] M (kV fun M1 => Tq 201 0 [vR 22 0, vI x1] [] M1 (kV fun M2 => Tq 201 0 [vR 22 0, vI x2] [] M2 (kV fun M3 => Tq 201 0 [vR 22 0, vI x3] [] M3 (kV fun M4 => Tq 204 1 [vR 22 0, vI x1, vI x2, vI x3, vI 0, vJ] [] M4 Q))))) :=
  Tq_blk (is := bk_204_0) (dd := de_204) rfl rfl
/-- EarthOfficeModel keeps block at 24 -/
theorem t204_1 {x1 x2 x3 x4 : Int} {M : Mem} {Q : AR → Mem → Prop} : Tq 204 1 [vR 22 0, vI x1, vI x2, vI x3, vI x4, vJ] [] M Q ↔ (if x3 ≤ x4 then Tq 204 4 [vR 22 0, vJ, vJ, vJ, vJ, vJ] [] M Q else ((0 : Int) ≤ x4 ∧ x4 < 256) ∧ Tq 201 0 [vR 22 0, vI (M 22017 0 x4)] [] M (kV fun M1 => ((0 : Int) ≤ w32 (w32 (w32 (4096 * x1) + x2) + x4) ∧ w32 (w32 (w32 (4096 * x1) + x2) + x4) < 49152) ∧ if M1 22012 0 (w32 (w32 (w32 (4096 * x1) + x2) + x4)) = 0 then Tq 204 2 [vR 22 0, vI x1, vI x2, vI x3, vI x4, vI (w32 (w32 (w32 (4096 * x1) + x2) + x4))] [vI (w32 (w32 (w32 (4096 * x1) + x2) + x4)), vR 22013 0] M1 Q else ((0 : Int) ≤ w32 (w32 (w32 (4096 * x1) + x2) + x4) ∧ w32 (w32 (w32 (4096 * x1) + x2) + x4) < 49152) ∧ Tq 204 3 [vR 22 0, vI x1, vI x2, vI x3, vI x4, vI (w32 (w32 (w32 (4096 * x1) + x2) + x4))] [vI (M1 22013 0 (w32 (w32 (w32 (4096 * x1) + x2) + x4))), vI (w32 (w32 (w32 (4096 * x1) + x2) + x4)), vR 22013 0] M1 Q)) :=
  Tq_blk (is := bk_204_1) (dd := de_204) rfl rfl
/-- EarthOfficeModel keeps block at 79 -/
theorem t204_2 {x1 x2 x3 x4 x5 s0 : Int} {M : Mem} {Q : AR → Mem → Prop} : Tq 204 2 [vR 22 0, vI x1, vI x2, vI x3, vI x4, vI x5] [vI s0, vR 22013 0] M Q ↔ (((0 : Int) ≤ x4 ∧ x4 < 256) ∧ Tq 204 3 [vR 22 0, vI x1, vI x2, vI x3, vI x4, vI x5] [vI (M 22017 0 x4), vI s0, vR 22013 0] M Q) :=
  Tq_blk (is := bk_204_2) (dd := de_204) rfl rfl
/-- EarthOfficeModel keeps block at 86 -/
theorem t204_3 {x1 x2 x3 x4 x5 s0 s1 : Int} {M : Mem} {Q : AR → Mem → Prop} : Tq 204 3 [vR 22 0, vI x1, vI x2, vI x3, vI x4, vI x5] [vI s0, vI s1, vR 22013 0] M Q ↔ (((0 : Int) ≤ s1 ∧ s1 < 49152) ∧ bd (mset M 22013 0 s1 s0) fun M1 => ((0 : Int) ≤ x5 ∧ x5 < 49152) ∧ bd (mset M1 22012 0 x5 (nb 1)) fun M2 => Tq 204 1 [vR 22 0, vI x1, vI x2, vI x3, vI (w32 (x4 + 1)), vJ] [] M2 Q) :=
  Tq_blk (is := bk_204_3) (dd := de_204) rfl rfl
/-- EarthOfficeModel keeps block at 101 -/
theorem t204_4 {M : Mem} {Q : AR → Mem → Prop} : Tq 204 4 [vR 22 0, vJ, vJ, vJ, vJ, vJ] [] M Q ↔ (Tq 202 0 [vR 22 0] [] M (kV fun M1 => Q (.inl none) M1)) :=
  Tq_blk (is := bk_204_4) (dd := de_204) rfl rfl
/-- EarthOfficeModel earth block at 0 -/
theorem t205_0 {x1 x2 x3 : Int} {M : Mem} {Q : AR → Mem → Prop} : Tq 205 0 [vR 22 0, vI x1, vI x2, vI x3] [] M Q ↔ (Tq 189 0 [vI x1, vI 0, vI 15] [] M (kI fun v1 M1 => if v1 = 0 then Tq 205 1 [vJ, vJ, vJ, vJ] [] M1 Q else Tq 189 0 [vI x2, vI 1, vI 999] [] M1 (kI fun v2 M2 => if v2 = 0 then Tq 205 1 [vJ, vJ, vJ, vJ] [] M2 Q else Tq 189 0 [vI x3, vI 1, vI 999] [] M2 (kI fun v3 M3 => if ¬ v3 = 0 then Tq 205 2 [vR 22 0, vI x1, vI x2, vI x3] [] M3 Q else Tq 205 1 [vJ, vJ, vJ, vJ] [] M3 Q)))) :=
  Tq_blk (is := bk_205_0) (dd := de_205) rfl rfl
/-- EarthOfficeModel earth block at 32 -/
theorem t205_1 {M : Mem} {Q : AR → Mem → Prop} : Tq 205 1 [vJ, vJ, vJ, vJ] [] M Q ↔ (Q (.inl (some (vI (-1)))) M) :=
  Tq_blk (is := bk_205_1) (dd := de_205) rfl rfl
/-- EarthOfficeModel earth block at 34 -/
theorem t205_2 {x1 x2 x3 : Int} {M : Mem} {Q : AR → Mem → Prop} : Tq 205 2 [vR 22 0, vI x1, vI x2, vI x3] [] M Q ↔ (Tq 198 0 [vR 22 0, vI 13] [] M (kI fun v1 M1 => if ¬ v1 = 0 then Tq 205 3 [vR 22 0, vI x1, vI x2, vI x3] [] M1 Q else Q (.inl (some (vI (-3)))) M1)) :=
  Tq_blk (is := bk_205_2) (dd := de_205) rfl rfl
/-- EarthOfficeModel earth block at 46 -/
theorem t205_3 {x1 x2 x3 : Int} {M : Mem} {Q : AR → Mem → Prop} : Tq 205 3 [vR 22 0, vI x1, vI x2, vI x3] [] M Q ↔ (((0 : Int) ≤ x1 ∧ x1 < 32) ∧ bd (mset M 22025 0 x1 x2) fun M1 => ((0 : Int) ≤ w32 (16 + x1) ∧ w32 (16 + x1) < 32) ∧ bd (mset M1 22025 0 (w32 (16 + x1)) x3) fun M2 => ((0 : Int) = 0 ∨ (0 : Int) = 1) ∧ bd (mset M2 22 0 27 0) fun M3 => Tq 199 0 [vR 22 0, vI 68, vI 3, vI x1, vI x2, vI x3, vI 0, vI 0, vJ] [] M3 (kV fun M4 => Q (.inl (some (vI 0))) M4)) :=
  Tq_blk (is := bk_205_3) (dd := de_205) rfl rfl
/-- EarthOfficeModel eventAgain block at 0 -/
theorem t206_0 {x1 : Int} {M : Mem} {Q : AR → Mem → Prop} : Tq 206 0 [vR 22 0, vI x1, vJ, vJ, vJ] [] M Q ↔ (Tq 207 0 [vR 22 0] [] M (kI fun v1 M1 => Tq 194 0 [vR 22 0, vI x1, vI 5] [] M1 (kI fun v2 M2 => Tq 206 1 [vR 22 0, vI x1, vI v1, vI v2, vI 0] [] M2 Q))) :=
  Tq_blk (is := bk_206_0) (dd := de_206) rfl rfl
/-- EarthOfficeModel eventAgain block at 15 -/
theorem t206_1 {x1 x2 x3 x4 : Int} {M : Mem} {Q : AR → Mem → Prop} : Tq 206 1 [vR 22 0, vI x1, vI x2, vI x3, vI x4] [] M Q ↔ (if w32 (5 * x3) ≤ x4 then Tq 206 2 [vR 22 0, vI x1, vI x2, vI x3, vJ] [] M Q else Tq 194 0 [vR 22 0, vI x1, vI (w32 (6 + x4))] [] M (kI fun v1 M1 => ((0 : Int) ≤ w32 (w32 (120 * x2) + x4) ∧ w32 (w32 (120 * x2) + x4) < 2880) ∧ bd (mset M1 22031 0 (w32 (w32 (120 * x2) + x4)) v1) fun M2 => Tq 206 1 [vR 22 0, vI x1, vI x2, vI x3, vI (w32 (x4 + 1))] [] M2 Q)) :=
  Tq_blk (is := bk_206_1) (dd := de_206) rfl rfl
/-- EarthOfficeModel eventAgain block at 51 -/
theorem t206_2 {x1 x2 x3 : Int} {M : Mem} {Q : AR → Mem → Prop} : Tq 206 2 [vR 22 0, vI x1, vI x2, vI x3, vJ] [] M Q ↔ (((0 : Int) ≤ x2 ∧ x2 < 24) ∧ bd (mset M 22030 0 x2 x3) fun M1 => Tq 194 0 [vR 22 0, vI x1, vI 0] [] M1 (kI fun v1 M2 => Tq 194 0 [vR 22 0, vI x1, vI 1] [] M2 (kI fun v2 M3 => Tq 194 0 [vR 22 0, vI x1, vI 2] [] M3 (kI fun v3 M4 => Tq 194 0 [vR 22 0, vI x1, vI 3] [] M4 (kI fun v4 M5 => Tq 194 0 [vR 22 0, vI x1, vI 4] [] M5 (kI fun v5 M6 => Tq 208 0 [vR 22 0, vI x2, vI 0, vI v1, vI v2, vI v3, vI v4, vI v5, vI (-99999999), vJ] [] M6 (kV fun M7 => Tq 209 0 [vR 22 0, vI x2, vJ] [] M7 (kV fun M8 => Q (.inl none) M8)))))))) :=
  Tq_blk (is := bk_206_2) (dd := de_206) rfl rfl
/-- EarthOfficeModel newEvent block at 0 -/
theorem t207_0 {M : Mem} {Q : AR → Mem → Prop} : Tq 207 0 [vR 22 0] [] M Q ↔ (((0 : Int) ≤ M 22 0 28 ∧ M 22 0 28 < 24) ∧ bd (mset M 22030 0 (M 22 0 28) 0) fun M1 => ((0 : Int) ≤ M1 22 0 28 ∧ M1 22 0 28 < 24) ∧ bd (mset M1 22032 0 (M1 22 0 28) 0) fun M2 => ((0 : Int) ≤ M2 22 0 28 ∧ M2 22 0 28 < 24) ∧ bd (mset M2 22035 0 (M2 22 0 28) (-99999999)) fun M3 => bd (mset M3 22 0 28 (w32 (M3 22 0 28 + 1))) fun M4 => Q (.inl (some (vI (w32 (M4 22 0 28 - 1))))) M4) :=
  Tq_blk (is := bk_207_0) (dd := de_207) rfl rfl
/-- EarthOfficeModel versionIs block at 0 -/
theorem t208_0_c84 {x1 x2 x3 x4 x5 x6 x7 x8 x9 s1 : Int} {M : Mem} {Q : AR → Mem → Prop} : Bq 208 de_208 (List.drop 84 bk_208_0) [vR 22 0, vI x1, vI x2, vI x3, vI x4, vI x5, vI x6, vI x7, vI x8, vI x9] [vR 22 0, vI s1, vR 22034 0] M Q ↔ (((0 : Int) ≤ s1 ∧ s1 < 24) ∧ bd (mset M 22034 0 s1 (M 22 0 29)) fun M1 => Q (.inl none) M1) :=
  Iff.rfl
theorem t208_0_c78 {x1 x2 x3 x4 x5 x6 x7 x8 x9 s0 s1 : Int} {M : Mem} {Q : AR → Mem → Prop} : Bq 208 de_208 (List.drop 78 bk_208_0) [vR 22 0, vI x1, vI x2, vI x3, vI x4, vI x5, vI x6, vI x7, vI x8, vI x9] [vI s0, vI s1, vR 22 0] M Q ↔ (bd (mset M 22 0 29 (w32 (s1 + s0))) fun M1 => ((0 : Int) ≤ x1 ∧ x1 < 24) ∧ bd (mset M1 22034 0 x1 (M1 22 0 29)) fun M2 => Q (.inl none) M2) :=
  (show Bq 208 de_208 (List.drop 78 bk_208_0) [vR 22 0, vI x1, vI x2, vI x3, vI x4, vI x5, vI x6, vI x7, vI x8, vI x9] [vI s0, vI s1, vR 22 0] M Q ↔ (bd (mset M 22 0 29 (w32 (s1 + s0))) fun M1 => Bq 208 de_208 (List.drop 84 bk_208_0) [vR 22 0, vI x1, vI x2, vI x3, vI x4, vI x5, vI x6, vI x7, vI x8, vI x9] [vR 22 0, vI x1, vR 22034 0] M1 Q) from Iff.rfl).trans (by simp only [t208_0_c84])
theorem t208_0_c72 {x1 x2 x3 x4 x5 x6 x7 x8 x9 s0 s1 s2 : Int} {M : Mem} {Q : AR → Mem → Prop} : Bq 208 de_208 (List.drop 72 bk_208_0) [vR 22 0, vI x1, vI x2, vI x3, vI x4, vI x5, vI x6, vI x7, vI x8, vI x9] [vI s0, vI s1, vI s2, vR 22032 0] M Q ↔ (((0 : Int) ≤ s2 ∧ s2 < 24) ∧ bd (mset M 22032 0 s2 (w32 (s1 + s0))) fun M1 => bd (mset M1 22 0 29 (w32 (M1 22 0 29 + 1))) fun M2 => ((0 : Int) ≤ x1 ∧ x1 < 24) ∧ bd (mset M2 22034 0 x1 (M2 22 0 29)) fun M3 => Q (.inl none) M3) :=
  (show Bq 208 de_208 (List.drop 72 bk_208_0) [vR 22 0, vI x1, vI x2, vI x3, vI x4, vI x5, vI x6, vI x7, vI x8, vI x9] [vI s0, vI s1, vI s2, vR 22032 0] M Q ↔ (((0 : Int) ≤ s2 ∧ s2 < 24) ∧ bd (mset M 22032 0 s2 (w32 (s1 + s0))) fun M1 => Bq 208 de_208 (List.drop 78 bk_208_0) [vR 22 0, vI x1, vI x2, vI x3, vI x4, vI x5, vI x6, vI x7, vI x8, vI x9] [vI 1, vI (M1 22 0 29), vR 22 0] M1 Q) from Iff.rfl).trans (by simp only [t208_0_c78])
theorem t208_0_c66 {x1 x2 x3 x4 x5 x6 x7 x8 x9 : Int} {M : Mem} {Q : AR → Mem → Prop} : Bq 208 de_208 (List.drop 66 bk_208_0) [vR 22 0, vI x1, vI x2, vI x3, vI x4, vI x5, vI x6, vI x7, vI x8, vI x9] [] M Q ↔ (((0 : Int) ≤ x1 ∧ x1 < 24) ∧ ((0 : Int) ≤ x1 ∧ x1 < 24) ∧ bd (mset M 22032 0 x1 (w32 (M 22032 0 x1 + 1))) fun M1 => bd (mset M1 22 0 29 (w32 (M1 22 0 29 + 1))) fun M2 => ((0 : Int) ≤ x1 ∧ x1 < 24) ∧ bd (mset M2 22034 0 x1 (M2 22 0 29)) fun M3 => Q (.inl none) M3) :=
  (show Bq 208 de_208 (List.drop 66 bk_208_0) [vR 22 0, vI x1, vI x2, vI x3, vI x4, vI x5, vI x6, vI x7, vI x8, vI x9] [] M Q ↔ (((0 : Int) ≤ x1 ∧ x1 < 24) ∧ Bq 208 de_208 (List.drop 72 bk_208_0) [vR 22 0, vI x1, vI x2, vI x3, vI x4, vI x5, vI x6, vI x7, vI x8, vI x9] [vI 1, vI (M 22032 0 x1), vI x1, vR 22032 0] M Q) from Iff.rfl).trans (by simp only [t208_0_c72])
theorem t208_0_c60 {x1 x2 x3 x4 x5 x6 x7 x8 x9 : Int} {M : Mem} {Q : AR → Mem → Prop} : Bq 208 de_208 (List.drop 60 bk_208_0) [vR 22 0, vI x1, vI x2, vI x3, vI x4, vI x5, vI x6, vI x7, vI x8, vI x9] [vR 22033 0] M Q ↔ (((0 : Int) ≤ w32 (x9 + 7) ∧ w32 (x9 + 7) < 3072) ∧ bd (mset M 22033 0 (w32 (x9 + 7)) (M 22 0 81)) fun M1 => ((0 : Int) ≤ x1 ∧ x1 < 24) ∧ ((0 : Int) ≤ x1 ∧ x1 < 24) ∧ bd (mset M1 22032 0 x1 (w32 (M1 22032 0 x1 + 1))) fun M2 => bd (mset M2 22 0 29 (w32 (M2 22 0 29 + 1))) fun M3 => ((0 : Int) ≤ x1 ∧ x1 < 24) ∧ bd (mset M3 22034 0 x1 (M3 22 0 29)) fun M4 => Q (.inl none) M4) :=
  (show Bq 208 de_208 (List.drop 60 bk_208_0) [vR 22 0, vI x1, vI x2, vI x3, vI x4, vI x5, vI x6, vI x7, vI x8, vI x9] [vR 22033 0] M Q ↔ (((0 : Int) ≤ w32 (x9 + 7) ∧ w32 (x9 + 7) < 3072) ∧ bd (mset M 22033 0 (w32 (x9 + 7)) (M 22 0 81)) fun M1 => Bq 208 de_208 (List.drop 66 bk_208_0) [vR 22 0, vI x1, vI x2, vI x3, vI x4, vI x5, vI x6, vI x7, vI x8, vI x9] [] M1 Q) from Iff.rfl).trans (by simp only [t208_0_c66])
theorem t208_0_c54 {x1 x2 x3 x4 x5 x6 x7 x8 x9 s0 : Int} {M : Mem} {Q : AR → Mem → Prop} : Bq 208 de_208 (List.drop 54 bk_208_0) [vR 22 0, vI x1, vI x2, vI x3, vI x4, vI x5, vI x6, vI x7, vI x8, vI x9] [vI s0, vR 22033 0] M Q ↔ (((0 : Int) ≤ w32 (s0 + 6) ∧ w32 (s0 + 6) < 3072) ∧ bd (mset M 22033 0 (w32 (s0 + 6)) x8) fun M1 => ((0 : Int) ≤ w32 (x9 + 7) ∧ w32 (x9 + 7) < 3072) ∧ bd (mset M1 22033 0 (w32 (x9 + 7)) (M1 22 0 81)) fun M2 => ((0 : Int) ≤ x1 ∧ x1 < 24) ∧ ((0 : Int) ≤ x1 ∧ x1 < 24) ∧ bd (mset M2 22032 0 x1 (w32 (M2 22032 0 x1 + 1))) fun M3 => bd (mset M3 22 0 29 (w32 (M3 22 0 29 + 1))) fun M4 => ((0 : Int) ≤ x1 ∧ x1 < 24) ∧ bd (mset M4 22034 0 x1 (M4 22 0 29)) fun M5 => Q (.inl none) M5) :=
  (show Bq 208 de_208 (List.drop 54 bk_208_0) [vR 22 0, vI x1, vI x2, vI x3, vI x4, vI x5, vI x6, vI x7, vI x8, vI x9] [vI s0, vR 22033 0] M Q ↔ (((0 : Int) ≤ w32 (s0 + 6) ∧ w32 (s0 + 6) < 3072) ∧ bd (mset M 22033 0 (w32 (s0 + 6)) x8) fun M1 => Bq 208 de_208 (List.drop 60 bk_208_0) [vR 22 0, vI x1, vI x2, vI x3, vI x4, vI x5, vI x6, vI x7, vI x8, vI x9] [vR 22033 0] M1 Q) from Iff.rfl).trans (by simp only [t208_0_c60])
theorem t208_0_c48 {x1 x2 x3 x4 x5 x6 x7 x8 x9 s0 s1 : Int} {M : Mem} {Q : AR → Mem → Prop} : Bq 208 de_208 (List.drop 48 bk_208_0) [vR 22 0, vI x1, vI x2, vI x3, vI x4, vI x5, vI x6, vI x7, vI x8, vI x9] [vI s0, vI s1, vR 22033 0] M Q ↔ (((0 : Int) ≤ w32 (s1 + s0) ∧ w32 (s1 + s0) < 3072) ∧ bd (mset M 22033 0 (w32 (s1 + s0)) x7) fun M1 => ((0 : Int) ≤ w32 (x9 + 6) ∧ w32 (x9 + 6) < 3072) ∧ bd (mset M1 22033 0 (w32 (x9 + 6)) x8) fun M2 => ((0 : Int) ≤ w32 (x9 + 7) ∧ w32 (x9 + 7) < 3072) ∧ bd (mset M2 22033 0 (w32 (x9 + 7)) (M2 22 0 81)) fun M3 => ((0 : Int) ≤ x1 ∧ x1 < 24) ∧ ((0 : Int) ≤ x1 ∧ x1 < 24) ∧ bd (mset M3 22032 0 x1 (w32 (M3 22032 0 x1 + 1))) fun M4 => bd (mset M4 22 0 29 (w32 (M4 22 0 29 + 1))) fun M5 => ((0 : Int) ≤ x1 ∧ x1 < 24) ∧ bd (mset M5 22034 0 x1 (M5 22 0 29)) fun M6 => Q (.inl none) M6) :=
  (show Bq 208 de_208 (List.drop 48 bk_208_0) [vR 22 0, vI x1, vI x2, vI x3, vI x4, vI x5, vI x6, vI x7, vI x8, vI x9] [vI s0, vI s1, vR 22033 0] M Q ↔ (((0 : Int) ≤ w32 (s1 + s0) ∧ w32 (s1 + s0) < 3072) ∧ bd (mset M 22033 0 (w32 (s1 + s0)) x7) fun M1 => Bq 208 de_208 (List.drop 54 bk_208_0) [vR 22 0, vI x1, vI x2, vI x3, vI x4, vI x5, vI x6, vI x7, vI x8, vI x9] [vI x9, vR 22033 0] M1 Q) from Iff.rfl).trans (by simp only [t208_0_c54])
theorem t208_0_c42 {x1 x2 x3 x4 x5 x6 x7 x8 x9 s0 : Int} {M : Mem} {Q : AR → Mem → Prop} : Bq 208 de_208 (List.drop 42 bk_208_0) [vR 22 0, vI x1, vI x2, vI x3, vI x4, vI x5, vI x6, vI x7, vI x8, vI x9] [vI s0, vR 22033 0] M Q ↔ (((0 : Int) ≤ s0 ∧ s0 < 3072) ∧ bd (mset M 22033 0 s0 x6) fun M1 => ((0 : Int) ≤ w32 (x9 + 5) ∧ w32 (x9 + 5) < 3072) ∧ bd (mset M1 22033 0 (w32 (x9 + 5)) x7) fun M2 => ((0 : Int) ≤ w32 (x9 + 6) ∧ w32 (x9 + 6) < 3072) ∧ bd (mset M2 22033 0 (w32 (x9 + 6)) x8) fun M3 => ((0 : Int) ≤ w32 (x9 + 7) ∧ w32 (x9 + 7) < 3072) ∧ bd (mset M3 22033 0 (w32 (x9 + 7)) (M3 22 0 81)) fun M4 => ((0 : Int) ≤ x1 ∧ x1 < 24) ∧ ((0 : Int) ≤ x1 ∧ x1 < 24) ∧ bd (mset M4 22032 0 x1 (w32 (M4 22032 0 x1 + 1))) fun M5 => bd (mset M5 22 0 29 (w32 (M5 22 0 29 + 1))) fun M6 => ((0 : Int) ≤ x1 ∧ x1 < 24) ∧ bd (mset M6 22034 0 x1 (M6 22 0 29)) fun M7 => Q (.inl none) M7) :=
  (show Bq 208 de_208 (List.drop 42 bk_208_0) [vR 22 0, vI x1, vI x2, vI x3, vI x4, vI x5, vI x6, vI x7, vI x8, vI x9] [vI s0, vR 22033 0] M Q ↔ (((0 : Int) ≤ s0 ∧ s0 < 3072) ∧ bd (mset M 22033 0 s0 x6) fun M1 => Bq 208 de_208 (List.drop 48 bk_208_0) [vR 22 0, vI x1, vI x2, vI x3, vI x4, vI x5, vI x6, vI x7, vI x8, vI x9] [vI 5, vI x9, vR 22033 0] M1 Q) from Iff.rfl).trans (by simp only [t208_0_c48])
theorem t208_0_c36 {x1 x2 x3 x4 x5 x6 x7 x8 x9 s0 s1 : Int} {M : Mem} {Q : AR → Mem → Prop} : Bq 208 de_208 (List.drop 36 bk_208_0) [vR 22 0, vI x1, vI x2, vI x3, vI x4, vI x5, vI x6, vI x7, vI x8, vI x9] [vI s0, vI s1, vR 22033 0] M Q ↔ (((0 : Int) ≤ s1 ∧ s1 < 3072) ∧ bd (mset M 22033 0 s1 s0) fun M1 => ((0 : Int) ≤ w32 (x9 + 4) ∧ w32 (x9 + 4) < 3072) ∧ bd (mset M1 22033 0 (w32 (x9 + 4)) x6) fun M2 => ((0 : Int) ≤ w32 (x9 + 5) ∧ w32 (x9 + 5) < 3072) ∧ bd (mset M2 22033 0 (w32 (x9 + 5)) x7) fun M3 => ((0 : Int) ≤ w32 (x9 + 6) ∧ w32 (x9 + 6) < 3072) ∧ bd (mset M3 22033 0 (w32 (x9 + 6)) x8) fun M4 => ((0 : Int) ≤ w32 (x9 + 7) ∧ w32 (x9 + 7) < 3072) ∧ bd (mset M4 22033 0 (w32 (x9 + 7)) (M4 22 0 81)) fun M5 => ((0 : Int) ≤ x1 ∧ x1 < 24) ∧ ((0 : Int) ≤ x1 ∧ x1 < 24) ∧ bd (mset M5 22032 0 x1 (w32 (M5 22032 0 x1 + 1))) fun M6 => bd (mset M6 22 0 29 (w32 (M6 22 0 29 + 1))) fun M7 => ((0 : Int) ≤ x1 ∧ x1 < 24) ∧ bd (mset M7 22034 0 x1 (M7 22 0 29)) fun M8 => Q (.inl none) M8) :=
  (show Bq 208 de_208 (List.drop 36 bk_208_0) [vR 22 0, vI x1, vI x2, vI x3, vI x4, vI x5, vI x6, vI x7, vI x8, vI x9] [vI s0, vI s1, vR 22033 0] M Q ↔ (((0 : Int) ≤ s1 ∧ s1 < 3072) ∧ bd (mset M 22033 0 s1 s0) fun M1 => Bq 208 de_208 (List.drop 42 bk_208_0) [vR 22 0, vI x1, vI x2, vI x3, vI x4, vI x5, vI x6, vI x7, vI x8, vI x9] [vI (w32 (x9 + 4)), vR 22033 0] M1 Q) from Iff.rfl).trans (by simp only [t208_0_c42])
theorem t208_0_c30 {x1 x2 x3 x4 x5 x6 x7 x8 x9 : Int} {M : Mem} {Q : AR → Mem → Prop} : Bq 208 de_208 (List.drop 30 bk_208_0) [vR 22 0, vI x1, vI x2, vI x3, vI x4, vI x5, vI x6, vI x7, vI x8, vI x9] [] M Q ↔ (((0 : Int) ≤ w32 (x9 + 3) ∧ w32 (x9 + 3) < 3072) ∧ bd (mset M 22033 0 (w32 (x9 + 3)) x5) fun M1 => ((0 : Int) ≤ w32 (x9 + 4) ∧ w32 (x9 + 4) < 3072) ∧ bd (mset M1 22033 0 (w32 (x9 + 4)) x6) fun M2 => ((0 : Int) ≤ w32 (x9 + 5) ∧ w32 (x9 + 5) < 3072) ∧ bd (mset M2 22033 0 (w32 (x9 + 5)) x7) fun M3 => ((0 : Int) ≤ w32 (x9 + 6) ∧ w32 (x9 + 6) < 3072) ∧ bd (mset M3 22033 0 (w32 (x9 + 6)) x8) fun M4 => ((0 : Int) ≤ w32 (x9 + 7) ∧ w32 (x9 + 7) < 3072) ∧ bd (mset M4 22033 0 (w32 (x9 + 7)) (M4 22 0 81)) fun M5 => ((0 : Int) ≤ x1 ∧ x1 < 24) ∧ ((0 : Int) ≤ x1 ∧ x1 < 24) ∧ bd (mset M5 22032 0 x1 (w32 (M5 22032 0 x1 + 1))) fun M6 => bd (mset M6 22 0 29 (w32 (M6 22 0 29 + 1))) fun M7 => ((0 : Int) ≤ x1 ∧ x1 < 24) ∧ bd (mset M7 22034 0 x1 (M7 22 0 29)) fun M8 => Q (.inl none) M8) :=
  (show Bq 208 de_208 (List.drop 30 bk_208_0) [vR 22 0, vI x1, vI x2, vI x3, vI x4, vI x5, vI x6, vI x7, vI x8, vI x9] [] M Q ↔ (Bq 208 de_208 (List.drop 36 bk_208_0) [vR 22 0, vI x1, vI x2, vI x3, vI x4, vI x5, vI x6, vI x7, vI x8, vI x9] [vI x5, vI (w32 (x9 + 3)), vR 22033 0] M Q) from Iff.rfl).trans (by simp only [t208_0_c36])
theorem t208_0_c24 {x1 x2 x3 x4 x5 x6 x7 x8 x9 : Int} {M : Mem} {Q : AR → Mem → Prop} : Bq 208 de_208 (List.drop 24 bk_208_0) [vR 22 0, vI x1, vI x2, vI x3, vI x4, vI x5, vI x6, vI x7, vI x8, vI x9] [vR 22 0] M Q ↔ (((0 : Int) ≤ w32 (x9 + 2) ∧ w32 (x9 + 2) < 3072) ∧ bd (mset M 22033 0 (w32 (x9 + 2)) x4) fun M1 => ((0 : Int) ≤ w32 (x9 + 3) ∧ w32 (x9 + 3) < 3072) ∧ bd (mset M1 22033 0 (w32 (x9 + 3)) x5) fun M2 => ((0 : Int) ≤ w32 (x9 + 4) ∧ w32 (x9 + 4) < 3072) ∧ bd (mset M2 22033 0 (w32 (x9 + 4)) x6) fun M3 => ((0 : Int) ≤ w32 (x9 + 5) ∧ w32 (x9 + 5) < 3072) ∧ bd (mset M3 22033 0 (w32 (x9 + 5)) x7) fun M4 => ((0 : Int) ≤ w32 (x9 + 6) ∧ w32 (x9 + 6) < 3072) ∧ bd (mset M4 22033 0 (w32 (x9 + 6)) x8) fun M5 => ((0 : Int) ≤ w32 (x9 + 7) ∧ w32 (x9 + 7) < 3072) ∧ bd (mset M5 22033 0 (w32 (x9 + 7)) (M5 22 0 81)) fun M6 => ((0 : Int) ≤ x1 ∧ x1 < 24) ∧ ((0 : Int) ≤ x1 ∧ x1 < 24) ∧ bd (mset M6 22032 0 x1 (w32 (M6 22032 0 x1 + 1))) fun M7 => bd (mset M7 22 0 29 (w32 (M7 22 0 29 + 1))) fun M8 => ((0 : Int) ≤ x1 ∧ x1 < 24) ∧ bd (mset M8 22034 0 x1 (M8 22 0 29)) fun M9 => Q (.inl none) M9) :=
  (show Bq 208 de_208 (List.drop 24 bk_208_0) [vR 22 0, vI x1, vI x2, vI x3, vI x4, vI x5, vI x6, vI x7, vI x8, vI x9] [vR 22 0] M Q ↔ (((0 : Int) ≤ w32 (x9 + 2) ∧ w32 (x9 + 2) < 3072) ∧ bd (mset M 22033 0 (w32 (x9 + 2)) x4) fun M1 => Bq 208 de_208 (List.drop 30 bk_208_0) [vR 22 0, vI x1, vI x2, vI x3, vI x4, vI x5, vI x6, vI x7, vI x8, vI x9] [] M1 Q) from Iff.rfl).trans (by simp only [t208_0_c30])
theorem t208_0_c18 {x1 x2 x3 x4 x5 x6 x7 x8 x9 : Int} {M : Mem} {Q : AR → Mem → Prop} : Bq 208 de_208 (List.drop 18 bk_208_0) [vR 22 0, vI x1, vI x2, vI x3, vI x4, vI x5, vI x6, vI x7, vI x8, vI x9] [vR 22033 0] M Q ↔ (((0 : Int) ≤ w32 (x9 + 1) ∧ w32 (x9 + 1) < 3072) ∧ bd (mset M 22033 0 (w32 (x9 + 1)) x3) fun M1 => ((0 : Int) ≤ w32 (x9 + 2) ∧ w32 (x9 + 2) < 3072) ∧ bd (mset M1 22033 0 (w32 (x9 + 2)) x4) fun M2 => ((0 : Int) ≤ w32 (x9 + 3) ∧ w32 (x9 + 3) < 3072) ∧ bd (mset M2 22033 0 (w32 (x9 + 3)) x5) fun M3 => ((0 : Int) ≤ w32 (x9 + 4) ∧ w32 (x9 + 4) < 3072) ∧ bd (mset M3 22033 0 (w32 (x9 + 4)) x6) fun M4 => ((0 : Int) ≤ w32 (x9 + 5) ∧ w32 (x9 + 5) < 3072) ∧ bd (mset M4 22033 0 (w32 (x9 + 5)) x7) fun M5 => ((0 : Int) ≤ w32 (x9 + 6) ∧ w32 (x9 + 6) < 3072) ∧ bd (mset M5 22033 0 (w32 (x9 + 6)) x8) fun M6 => ((0 : Int) ≤ w32 (x9 + 7) ∧ w32 (x9 + 7) < 3072) ∧ bd (mset M6 22033 0 (w32 (x9 + 7)) (M6 22 0 81)) fun M7 => ((0 : Int) ≤ x1 ∧ x1 < 24) ∧ ((0 : Int) ≤ x1 ∧ x1 < 24) ∧ bd (mset M7 22032 0 x1 (w32 (M7 22032 0 x1 + 1))) fun M8 => bd (mset M8 22 0 29 (w32 (M8 22 0 29 + 1))) fun M9 => ((0 : Int) ≤ x1 ∧ x1 < 24) ∧ bd (mset M9 22034 0 x1 (M9 22 0 29)) fun M10 => Q (.inl none) M10) :=
  (show Bq 208 de_208 (List.drop 18 bk_208_0) [vR 22 0, vI x1, vI x2, vI x3, vI x4, vI x5, vI x6, vI x7, vI x8, vI x9] [vR 22033 0] M Q ↔ (((0 : Int) ≤ w32 (x9 + 1) ∧ w32 (x9 + 1) < 3072) ∧ bd (mset M 22033 0 (w32 (x9 + 1)) x3) fun M1 => Bq 208 de_208 (List.drop 24 bk_208_0) [vR 22 0, vI x1, vI x2, vI x3, vI x4, vI x5, vI x6, vI x7, vI x8, vI x9] [vR 22 0] M1 Q) from Iff.rfl).trans (by simp only [t208_0_c24])
theorem t208_0_c12 {x1 x2 x3 x4 x5 x6 x7 x8 x9 : Int} {M : Mem} {Q : AR → Mem → Prop} : Bq 208 de_208 (List.drop 12 bk_208_0) [vR 22 0, vI x1, vI x2, vI x3, vI x4, vI x5, vI x6, vI x7, vI x8, vI x9] [vR 22 0] M Q ↔ (((0 : Int) ≤ x9 ∧ x9 < 3072) ∧ bd (mset M 22033 0 x9 x2) fun M1 => ((0 : Int) ≤ w32 (x9 + 1) ∧ w32 (x9 + 1) < 3072) ∧ bd (mset M1 22033 0 (w32 (x9 + 1)) x3) fun M2 => ((0 : Int) ≤ w32 (x9 + 2) ∧ w32 (x9 + 2) < 3072) ∧ bd (mset M2 22033 0 (w32 (x9 + 2)) x4) fun M3 => ((0 : Int) ≤ w32 (x9 + 3) ∧ w32 (x9 + 3) < 3072) ∧ bd (mset M3 22033 0 (w32 (x9 + 3)) x5) fun M4 => ((0 : Int) ≤ w32 (x9 + 4) ∧ w32 (x9 + 4) < 3072) ∧ bd (mset M4 22033 0 (w32 (x9 + 4)) x6) fun M5 => ((0 : Int) ≤ w32 (x9 + 5) ∧ w32 (x9 + 5) < 3072) ∧ bd (mset M5 22033 0 (w32 (x9 + 5)) x7) fun M6 => ((0 : Int) ≤ w32 (x9 + 6) ∧ w32 (x9 + 6) < 3072) ∧ bd (mset M6 22033 0 (w32 (x9 + 6)) x8) fun M7 => ((0 : Int) ≤ w32 (x9 + 7) ∧ w32 (x9 + 7) < 3072) ∧ bd (mset M7 22033 0 (w32 (x9 + 7)) (M7 22 0 81)) fun M8 => ((0 : Int) ≤ x1 ∧ x1 < 24) ∧ ((0 : Int) ≤ x1 ∧ x1 < 24) ∧ bd (mset M8 22032 0 x1 (w32 (M8 22032 0 x1 + 1))) fun M9 => bd (mset M9 22 0 29 (w32 (M9 22 0 29 + 1))) fun M10 => ((0 : Int) ≤ x1 ∧ x1 < 24) ∧ bd (mset M10 22034 0 x1 (M10 22 0 29)) fun M11 => Q (.inl none) M11) :=
  (show Bq 208 de_208 (List.drop 12 bk_208_0) [vR 22 0, vI x1, vI x2, vI x3, vI x4, vI x5, vI x6, vI x7, vI x8, vI x9] [vR 22 0] M Q ↔ (((0 : Int) ≤ x9 ∧ x9 < 3072) ∧ bd (mset M 22033 0 x9 x2) fun M1 => Bq 208 de_208 (List.drop 18 bk_208_0) [vR 22 0, vI x1, vI x2, vI x3, vI x4, vI x5, vI x6, vI x7, vI x8, vI x9] [vR 22033 0] M1 Q) from Iff.rfl).trans (by simp only [t208_0_c18])
theorem t208_0_c6 {x1 x2 x3 x4 x5 x6 x7 x8 s1 s2 : Int} {M : Mem} {Q : AR → Mem → Prop} : Bq 208 de_208 (List.drop 6 bk_208_0) [vR 22 0, vI x1, vI x2, vI x3, vI x4, vI x5, vI x6, vI x7, vI x8, vJ] [vR 22032 0, vI s1, vI s2] M Q ↔ (((0 : Int) ≤ x1 ∧ x1 < 24) ∧ ((0 : Int) ≤ w32 (s2 * (w32 (s1 + M 22032 0 x1))) ∧ w32 (s2 * (w32 (s1 + M 22032 0 x1))) < 3072) ∧ bd (mset M 22033 0 (w32 (s2 * (w32 (s1 + M 22032 0 x1)))) x2) fun M1 => ((0 : Int) ≤ w32 (w32 (s2 * (w32 (s1 + M 22032 0 x1))) + 1) ∧ w32 (w32 (s2 * (w32 (s1 + M 22032 0 x1))) + 1) < 3072) ∧ bd (mset M1 22033 0 (w32 (w32 (s2 * (w32 (s1 + M 22032 0 x1))) + 1)) x3) fun M2 => ((0 : Int) ≤ w32 (w32 (s2 * (w32 (s1 + M 22032 0 x1))) + 2) ∧ w32 (w32 (s2 * (w32 (s1 + M 22032 0 x1))) + 2) < 3072) ∧ bd (mset M2 22033 0 (w32 (w32 (s2 * (w32 (s1 + M 22032 0 x1))) + 2)) x4) fun M3 => ((0 : Int) ≤ w32 (w32 (s2 * (w32 (s1 + M 22032 0 x1))) + 3) ∧ w32 (w32 (s2 * (w32 (s1 + M 22032 0 x1))) + 3) < 3072) ∧ bd (mset M3 22033 0 (w32 (w32 (s2 * (w32 (s1 + M 22032 0 x1))) + 3)) x5) fun M4 => ((0 : Int) ≤ w32 (w32 (s2 * (w32 (s1 + M 22032 0 x1))) + 4) ∧ w32 (w32 (s2 * (w32 (s1 + M 22032 0 x1))) + 4) < 3072) ∧ bd (mset M4 22033 0 (w32 (w32 (s2 * (w32 (s1 + M 22032 0 x1))) + 4)) x6) fun M5 => ((0 : Int) ≤ w32 (w32 (s2 * (w32 (s1 + M 22032 0 x1))) + 5) ∧ w32 (w32 (s2 * (w32 (s1 + M 22032 0 x1))) + 5) < 3072) ∧ bd (mset M5 22033 0 (w32 (w32 (s2 * (w32 (s1 + M 22032 0 x1))) + 5)) x7) fun M6 => ((0 : Int) ≤ w32 (w32 (s2 * (w32 (s1 + M 22032 0 x1))) + 6) ∧ w32 (w32 (s2 * (w32 (s1 + M 22032 0 x1))) + 6) < 3072) ∧ bd (mset M6 22033 0 (w32 (w32 (s2 * (w32 (s1 + M 22032 0 x1))) + 6)) x8) fun M7 => ((0 : Int) ≤ w32 (w32 (s2 * (w32 (s1 + M 22032 0 x1))) + 7) ∧ w32 (w32 (s2 * (w32 (s1 + M 22032 0 x1))) + 7) < 3072) ∧ bd (mset M7 22033 0 (w32 (w32 (s2 * (w32 (s1 + M 22032 0 x1))) + 7)) (M7 22 0 81)) fun M8 => ((0 : Int) ≤ x1 ∧ x1 < 24) ∧ ((0 : Int) ≤ x1 ∧ x1 < 24) ∧ bd (mset M8 22032 0 x1 (w32 (M8 22032 0 x1 + 1))) fun M9 => bd (mset M9 22 0 29 (w32 (M9 22 0 29 + 1))) fun M10 => ((0 : Int) ≤ x1 ∧ x1 < 24) ∧ bd (mset M10 22034 0 x1 (M10 22 0 29)) fun M11 => Q (.inl none) M11) :=
  (show Bq 208 de_208 (List.drop 6 bk_208_0) [vR 22 0, vI x1, vI x2, vI x3, vI x4, vI x5, vI x6, vI x7, vI x8, vJ] [vR 22032 0, vI s1, vI s2] M Q ↔ (((0 : Int) ≤ x1 ∧ x1 < 24) ∧ Bq 208 de_208 (List.drop 12 bk_208_0) [vR 22 0, vI x1, vI x2, vI x3, vI x4, vI x5, vI x6, vI x7, vI x8, vI (w32 (s2 * (w32 (s1 + M 22032 0 x1))))] [vR 22 0] M Q) from Iff.rfl).trans (by simp only [t208_0_c12])
theorem t208_0 {x1 x2 x3 x4 x5 x6 x7 x8 : Int} {M : Mem} {Q : AR → Mem → Prop} : Tq 208 0 [vR 22 0, vI x1, vI x2, vI x3, vI x4, vI x5, vI x6, vI x7, vI x8, vJ] [] M Q ↔ (((0 : Int) ≤ x1 ∧ x1 < 24) ∧ ((0 : Int) ≤ w32 (8 * (w32 (w32 (16 * x1) + M 22032 0 x1))) ∧ w32 (8 * (w32 (w32 (16 * x1) + M 22032 0 x1))) < 3072) ∧ bd (mset M 22033 0 (w32 (8 * (w32 (w32 (16 * x1) + M 22032 0 x1)))) x2) fun M1 => ((0 : Int) ≤ w32 (w32 (8 * (w32 (w32 (16 * x1) + M 22032 0 x1))) + 1) ∧ w32 (w32 (8 * (w32 (w32 (16 * x1) + M 22032 0 x1))) + 1) < 3072) ∧ bd (mset M1 22033 0 (w32 (w32 (8 * (w32 (w32 (16 * x1) + M 22032 0 x1))) + 1)) x3) fun M2 => ((0 : Int) ≤ w32 (w32 (8 * (w32 (w32 (16 * x1) + M 22032 0 x1))) + 2) ∧ w32 (w32 (8 * (w32 (w32 (16 * x1) + M 22032 0 x1))) + 2) < 3072) ∧ bd (mset M2 22033 0 (w32 (w32 (8 * (w32 (w32 (16 * x1) + M 22032 0 x1))) + 2)) x4) fun M3 => ((0 : Int) ≤ w32 (w32 (8 * (w32 (w32 (16 * x1) + M 22032 0 x1))) + 3) ∧ w32 (w32 (8 * (w32 (w32 (16 * x1) + M 22032 0 x1))) + 3) < 3072) ∧ bd (mset M3 22033 0 (w32 (w32 (8 * (w32 (w32 (16 * x1) + M 22032 0 x1))) + 3)) x5) fun M4 => ((0 : Int) ≤ w32 (w32 (8 * (w32 (w32 (16 * x1) + M 22032 0 x1))) + 4) ∧ w32 (w32 (8 * (w32 (w32 (16 * x1) + M 22032 0 x1))) + 4) < 3072) ∧ bd (mset M4 22033 0 (w32 (w32 (8 * (w32 (w32 (16 * x1) + M 22032 0 x1))) + 4)) x6) fun M5 => ((0 : Int) ≤ w32 (w32 (8 * (w32 (w32 (16 * x1) + M 22032 0 x1))) + 5) ∧ w32 (w32 (8 * (w32 (w32 (16 * x1) + M 22032 0 x1))) + 5) < 3072) ∧ bd (mset M5 22033 0 (w32 (w32 (8 * (w32 (w32 (16 * x1) + M 22032 0 x1))) + 5)) x7) fun M6 => ((0 : Int) ≤ w32 (w32 (8 * (w32 (w32 (16 * x1) + M 22032 0 x1))) + 6) ∧ w32 (w32 (8 * (w32 (w32 (16 * x1) + M 22032 0 x1))) + 6) < 3072) ∧ bd (mset M6 22033 0 (w32 (w32 (8 * (w32 (w32 (16 * x1) + M 22032 0 x1))) + 6)) x8) fun M7 => ((0 : Int) ≤ w32 (w32 (8 * (w32 (w32 (16 * x1) + M 22032 0 x1))) + 7) ∧ w32 (w32 (8 * (w32 (w32 (16 * x1) + M 22032 0 x1))) + 7) < 3072) ∧ bd (mset M7 22033 0 (w32 (w32 (8 * (w32 (w32 (16 * x1) + M 22032 0 x1))) + 7)) (M7 22 0 81)) fun M8 => ((0 : Int) ≤ x1 ∧ x1 < 24) ∧ ((0 : Int) ≤ x1 ∧ x1 < 24) ∧ bd (mset M8 22032 0 x1 (w32 (M8 22032 0 x1 + 1))) fun M9 => bd (mset M9 22 0 29 (w32 (M9 22 0 29 + 1))) fun M10 => ((0 : Int) ≤ x1 ∧ x1 < 24) ∧ bd (mset M10 22034 0 x1 (M10 22 0 29)) fun M11 => Q (.inl none) M11) :=
  (show Tq 208 0 [vR 22 0, vI x1, vI x2, vI x3, vI x4, vI x5, vI x6, vI x7, vI x8, vJ] [] M Q ↔ (Bq 208 de_208 (List.drop 6 bk_208_0) [vR 22 0, vI x1, vI x2, vI x3, vI x4, vI x5, vI x6, vI x7, vI x8, vJ] [vR 22032 0, vI (w32 (16 * x1)), vI 8] M Q) from Tq_blk (is := bk_208_0) (dd := de_208) rfl rfl).trans (by simp only [t208_0_c6])
/-- EarthOfficeModel notesEvent block at 0 -/
theorem t209_0 {x1 : Int} {M : Mem} {Q : AR → Mem → Prop} : Tq 209 0 [vR 22 0, vI x1, vJ] [] M Q ↔ (Tq 200 0 [vR 22 0, vI 69] [] M (kV fun M1 => Tq 209 1 [vR 22 0, vI x1, vI 1] [] M1 Q)) :=
  Tq_blk (is := bk_209_0) (dd := de_209) rfl rfl
/-- EarthOfficeModel notesEvent block at 8 -/
theorem t209_1 {x1 x2 : Int} {M : Mem} {Q : AR → Mem → Prop} : Tq 209 1 [vR 22 0, vI x1, vI x2] [] M Q ↔ (if (6 : Int) ≤ x2 then Tq 209 2 [vR 22 0, vI x1, vJ] [] M Q else Tq 210 0 [vR 22 0, vI x1, vI x2] [] M (kI fun v1 M1 => Tq 201 0 [vR 22 0, vI v1] [] M1 (kV fun M2 => Tq 209 1 [vR 22 0, vI x1, vI (w32 (x2 + 1))] [] M2 Q))) :=
  Tq_blk (is := bk_209_1) (dd := de_209) rfl rfl
/-- EarthOfficeModel notesEvent block at 30 -/
theorem t209_2 {x1 : Int} {M : Mem} {Q : AR → Mem → Prop} : Tq 209 2 [vR 22 0, vI x1, vJ] [] M Q ↔ (((0 : Int) ≤ x1 ∧ x1 < 24) ∧ Tq 201 0 [vR 22 0, vI (M 22030 0 x1)] [] M (kV fun M1 => Tq 209 3 [vR 22 0, vI x1, vI 0] [] M1 Q)) :=
  Tq_blk (is := bk_209_2) (dd := de_209) rfl rfl
/-- EarthOfficeModel notesEvent block at 42 -/
theorem t209_3 {x1 x2 : Int} {M : Mem} {Q : AR → Mem → Prop} : Tq 209 3 [vR 22 0, vI x1, vI x2] [] M Q ↔ (((0 : Int) ≤ x1 ∧ x1 < 24) ∧ if w32 (5 * (M 22030 0 x1)) ≤ x2 then Tq 209 4 [vR 22 0, vJ, vJ] [] M Q else ((0 : Int) ≤ w32 (w32 (120 * x1) + x2) ∧ w32 (w32 (120 * x1) + x2) < 2880) ∧ Tq 201 0 [vR 22 0, vI (M 22031 0 (w32 (w32 (120 * x1) + x2)))] [] M (kV fun M1 => Tq 209 3 [vR 22 0, vI x1, vI (w32 (x2 + 1))] [] M1 Q)) :=
  Tq_blk (is := bk_209_3) (dd := de_209) rfl rfl
/-- EarthOfficeModel notesEvent block at 75 -/
theorem t209_4 {M : Mem} {Q : AR → Mem → Prop} : Tq 209 4 [vR 22 0, vJ, vJ] [] M Q ↔ (Tq 202 0 [vR 22 0] [] M (kV fun M1 => Q (.inl none) M1)) :=
  Tq_blk (is := bk_209_4) (dd := de_209) rfl rfl
/-- EarthOfficeModel latest block at 0 -/
theorem t210_0 {x1 x2 : Int} {M : Mem} {Q : AR → Mem → Prop} : Tq 210 0 [vR 22 0, vI x1, vI x2] [] M Q ↔ (((0 : Int) ≤ x1 ∧ x1 < 24) ∧ ((0 : Int) ≤ w32 (w32 (8 * (w32 (w32 (w32 (16 * x1) + M 22032 0 x1) - 1))) + x2) ∧ w32 (w32 (8 * (w32 (w32 (w32 (16 * x1) + M 22032 0 x1) - 1))) + x2) < 3072) ∧ Q (.inl (some (vI (M 22033 0 (w32 (w32 (8 * (w32 (w32 (w32 (16 * x1) + M 22032 0 x1) - 1))) + x2)))))) M) :=
  Tq_blk (is := bk_210_0) (dd := de_210) rfl rfl
/-- EarthOfficeModel notesVersion block at 0 -/
theorem t211_0 {x1 : Int} {M : Mem} {Q : AR → Mem → Prop} : Tq 211 0 [vR 22 0, vI x1, vJ] [] M Q ↔ (Tq 200 0 [vR 22 0, vI 86] [] M (kV fun M1 => Tq 201 0 [vR 22 0, vI x1] [] M1 (kV fun M2 => Tq 211 1 [vR 22 0, vI x1, vI 0] [] M2 Q))) :=
  Tq_blk (is := bk_211_0) (dd := de_211) rfl rfl
/-- EarthOfficeModel notesVersion block at 13 -/
theorem t211_1 {x1 x2 : Int} {M : Mem} {Q : AR → Mem → Prop} : Tq 211 1 [vR 22 0, vI x1, vI x2] [] M Q ↔ (if (7 : Int) ≤ x2 then Tq 211 2 [vR 22 0, vJ, vJ] [] M Q else Tq 210 0 [vR 22 0, vI x1, vI x2] [] M (kI fun v1 M1 => Tq 201 0 [vR 22 0, vI v1] [] M1 (kV fun M2 => Tq 211 1 [vR 22 0, vI x1, vI (w32 (x2 + 1))] [] M2 Q))) :=
  Tq_blk (is := bk_211_1) (dd := de_211) rfl rfl
/-- EarthOfficeModel notesVersion block at 35 -/
theorem t211_2 {M : Mem} {Q : AR → Mem → Prop} : Tq 211 2 [vR 22 0, vJ, vJ] [] M Q ↔ (Tq 202 0 [vR 22 0] [] M (kV fun M1 => Q (.inl none) M1)) :=
  Tq_blk (is := bk_211_2) (dd := de_211) rfl rfl
/-- EarthOfficeModel merge block at 0 -/
theorem t212_0 {x1 x2 : Int} {M : Mem} {Q : AR → Mem → Prop} : Tq 212 0 [vR 22 0, vI x1, vI x2, vJ, vJ, vJ, vJ, vJ, vJ] [] M Q ↔ (Tq 213 0 [vR 22 0, vI x1] [] M (kI fun v1 M1 => if v1 = 0 then Tq 212 1 [vJ, vJ, vJ, vJ, vJ, vJ, vJ, vJ, vJ] [] M1 Q else Tq 213 0 [vR 22 0, vI x2] [] M1 (kI fun v2 M2 => if v2 = 0 then Tq 212 1 [vJ, vJ, vJ, vJ, vJ, vJ, vJ, vJ, vJ] [] M2 Q else if ¬ x1 = x2 then Tq 212 2 [vR 22 0, vI x1, vI x2, vJ, vJ, vJ, vJ, vJ, vJ] [] M2 Q else Tq 212 1 [vJ, vJ, vJ, vJ, vJ, vJ, vJ, vJ, vJ] [] M2 Q))) :=
  Tq_blk (is := bk_212_0) (dd := de_212) rfl rfl
/-- EarthOfficeModel merge block at 21 -/
theorem t212_1 {M : Mem} {Q : AR → Mem → Prop} : Tq 212 1 [vJ, vJ, vJ, vJ, vJ, vJ, vJ, vJ, vJ] [] M Q ↔ (Q (.inl (some (vI (-1)))) M) :=
  Tq_blk (is := bk_212_1) (dd := de_212) rfl rfl
/-- EarthOfficeModel merge block at 23 -/
theorem t212_2 {x1 x2 : Int} {M : Mem} {Q : AR → Mem → Prop} : Tq 212 2 [vR 22 0, vI x1, vI x2, vJ, vJ, vJ, vJ, vJ, vJ] [] M Q ↔ (((0 : Int) ≤ x1 ∧ x1 < 24) ∧ if ¬ M 22035 0 x1 = (-99999999) then Tq 212 3 [vJ, vJ, vJ, vJ, vJ, vJ, vJ, vJ, vJ] [] M Q else ((0 : Int) ≤ x2 ∧ x2 < 24) ∧ if M 22035 0 x2 = (-99999999) then Tq 212 4 [vR 22 0, vI x1, vI x2, vJ, vJ, vJ, vJ, vJ, vJ] [] M Q else Tq 212 3 [vJ, vJ, vJ, vJ, vJ, vJ, vJ, vJ, vJ] [] M Q) :=
  Tq_blk (is := bk_212_2) (dd := de_212) rfl rfl
/-- EarthOfficeModel merge block at 45 -/
theorem t212_3 {M : Mem} {Q : AR → Mem → Prop} : Tq 212 3 [vJ, vJ, vJ, vJ, vJ, vJ, vJ, vJ, vJ] [] M Q ↔ (Q (.inl (some (vI (-2)))) M) :=
  Tq_blk (is := bk_212_3) (dd := de_212) rfl rfl
/-- EarthOfficeModel merge block at 48 -/
theorem t212_4 {x1 x2 : Int} {M : Mem} {Q : AR → Mem → Prop} : Tq 212 4 [vR 22 0, vI x1, vI x2, vJ, vJ, vJ, vJ, vJ, vJ] [] M Q ↔ (Tq 198 0 [vR 22 0, vI 9] [] M (kI fun v1 M1 => if ¬ v1 = 0 then Tq 212 5 [vR 22 0, vI x1, vI x2, vJ, vJ, vJ, vJ, vJ, vJ] [] M1 Q else Q (.inl (some (vI (-3)))) M1)) :=
  Tq_blk (is := bk_212_4) (dd := de_212) rfl rfl
/-- EarthOfficeModel merge block at 60 -/
theorem t212_5 {x1 x2 : Int} {M : Mem} {Q : AR → Mem → Prop} : Tq 212 5 [vR 22 0, vI x1, vI x2, vJ, vJ, vJ, vJ, vJ, vJ] [] M Q ↔ (((0 : Int) ≤ x1 ∧ x1 < 24) ∧ Tq 212 6 [vR 22 0, vI x1, vI x2, vI (M 22030 0 x1), vI 0, vJ, vJ, vJ, vJ] [] M Q) :=
  Tq_blk (is := bk_212_5) (dd := de_212) rfl rfl
/-- EarthOfficeModel merge block at 70 -/
theorem t212_6_c12 {x1 x2 x3 x4 s0 s1 : Int} {M : Mem} {Q : AR → Mem → Prop} : Bq 212 de_212 (List.drop 12 bk_212_6) [vR 22 0, vI x1, vI x2, vI x3, vI x4, vJ, vJ, vJ, vJ] [vI s0, vI s1] M Q ↔ (Tq 212 7 [vR 22 0, vI x1, vI x2, vI x3, vI x4, vI (w32 (s1 * s0)), vI 0, vI 0, vJ] [] M Q) :=
  Iff.rfl
theorem t212_6_c6 {x1 x2 x3 x4 : Int} {M : Mem} {Q : AR → Mem → Prop} : Bq 212 de_212 (List.drop 6 bk_212_6) [vR 22 0, vI x1, vI x2, vI x3, vI x4, vJ, vJ, vJ, vJ] [] M Q ↔ (Tq 212 7 [vR 22 0, vI x1, vI x2, vI x3, vI x4, vI (w32 (5 * (w32 (w32 (24 * x2) + x4)))), vI 0, vI 0, vJ] [] M Q) :=
  (show Bq 212 de_212 (List.drop 6 bk_212_6) [vR 22 0, vI x1, vI x2, vI x3, vI x4, vJ, vJ, vJ, vJ] [] M Q ↔ (Bq 212 de_212 (List.drop 12 bk_212_6) [vR 22 0, vI x1, vI x2, vI x3, vI x4, vJ, vJ, vJ, vJ] [vI (w32 (w32 (24 * x2) + x4)), vI 5] M Q) from Iff.rfl).trans (by simp only [t212_6_c12])
theorem t212_6 {x1 x2 x3 x4 : Int} {M : Mem} {Q : AR → Mem → Prop} : Tq 212 6 [vR 22 0, vI x1, vI x2, vI x3, vI x4, vJ, vJ, vJ, vJ] [] M Q ↔ (((0 : Int) ≤ x2 ∧ x2 < 24) ∧ if M 22030 0 x2 ≤ x4 then Tq 212 14 [vR 22 0, vI x1, vI x2, vJ, vJ, vJ, vJ, vJ, vJ] [] M Q else Tq 212 7 [vR 22 0, vI x1, vI x2, vI x3, vI x4, vI (w32 (5 * (w32 (w32 (24 * x2) + x4)))), vI 0, vI 0, vJ] [] M Q) :=
  (show Tq 212 6 [vR 22 0, vI x1, vI x2, vI x3, vI x4, vJ, vJ, vJ, vJ] [] M Q ↔ (((0 : Int) ≤ x2 ∧ x2 < 24) ∧ if M 22030 0 x2 ≤ x4 then Tq 212 14 [vR 22 0, vI x1, vI x2, vJ, vJ, vJ, vJ, vJ, vJ] [] M Q else Bq 212 de_212 (List.drop 6 bk_212_6) [vR 22 0, vI x1, vI x2, vI x3, vI x4, vJ, vJ, vJ, vJ] [] M Q) from Tq_blk (is := bk_212_6) (dd := de_212) rfl rfl).trans (by simp only [t212_6_c6])
/-- EarthOfficeModel merge block at 98 -/
theorem t212_7_c30 {x1 x2 x3 x4 x5 x6 x7 x8 s0 s2 s3 : Int} {M : Mem} {Q : AR → Mem → Prop} : Bq 212 de_212 (List.drop 30 bk_212_7) [vR 22 0, vI x1, vI x2, vI x3, vI x4, vI x5, vI x6, vI x7, vI x8] [vI s0, vR 22031 0, vI s2, vI s3] M Q ↔ (((0 : Int) ≤ w32 (s0 + 2) ∧ w32 (s0 + 2) < 2880) ∧ if ¬ s2 = M 22031 0 (w32 (s0 + 2)) then Tq 212 8 [vR 22 0, vI x1, vI x2, vI x3, vI x4, vI x5, vJ, vI x7, vJ] [vI s3] M Q else Tq 212 9 [vR 22 0, vI x1, vI x2, vI x3, vI x4, vI x5, vJ, vI x7, vJ] [vI 1, vI s3] M Q) :=
  Iff.rfl
theorem t212_7_c24 {x1 x2 x3 x4 x5 x6 x7 x8 s0 s2 : Int} {M : Mem} {Q : AR → Mem → Prop} : Bq 212 de_212 (List.drop 24 bk_212_7) [vR 22 0, vI x1, vI x2, vI x3, vI x4, vI x5, vI x6, vI x7, vI x8] [vI s0, vR 22031 0, vI s2] M Q ↔ (((0 : Int) ≤ w32 (s0 + 2) ∧ w32 (s0 + 2) < 2880) ∧ ((0 : Int) ≤ w32 (x5 + 2) ∧ w32 (x5 + 2) < 2880) ∧ if ¬ M 22031 0 (w32 (s0 + 2)) = M 22031 0 (w32 (x5 + 2)) then Tq 212 8 [vR 22 0, vI x1, vI x2, vI x3, vI x4, vI x5, vJ, vI x7, vJ] [vI s2] M Q else Tq 212 9 [vR 22 0, vI x1, vI x2, vI x3, vI x4, vI x5, vJ, vI x7, vJ] [vI 1, vI s2] M Q) :=
  (show Bq 212 de_212 (List.drop 24 bk_212_7) [vR 22 0, vI x1, vI x2, vI x3, vI x4, vI x5, vI x6, vI x7, vI x8] [vI s0, vR 22031 0, vI s2] M Q ↔ (((0 : Int) ≤ w32 (s0 + 2) ∧ w32 (s0 + 2) < 2880) ∧ Bq 212 de_212 (List.drop 30 bk_212_7) [vR 22 0, vI x1, vI x2, vI x3, vI x4, vI x5, vI x6, vI x7, vI x8] [vI x5, vR 22031 0, vI (M 22031 0 (w32 (s0 + 2))), vI s2] M Q) from Iff.rfl).trans (by simp only [t212_7_c30])
theorem t212_7_c18 {x1 x2 x3 x4 x5 x6 x7 x8 s1 s2 : Int} {M : Mem} {Q : AR → Mem → Prop} : Bq 212 de_212 (List.drop 18 bk_212_7) [vR 22 0, vI x1, vI x2, vI x3, vI x4, vI x5, vI x6, vI x7, vI x8] [vR 22031 0, vI s1, vI s2] M Q ↔ (((0 : Int) ≤ x5 ∧ x5 < 2880) ∧ if ¬ s1 = M 22031 0 x5 then Tq 212 8 [vR 22 0, vI x1, vI x2, vI x3, vI x4, vI x5, vJ, vI x7, vJ] [vI s2] M Q else ((0 : Int) ≤ w32 (x8 + 2) ∧ w32 (x8 + 2) < 2880) ∧ ((0 : Int) ≤ w32 (x5 + 2) ∧ w32 (x5 + 2) < 2880) ∧ if ¬ M 22031 0 (w32 (x8 + 2)) = M 22031 0 (w32 (x5 + 2)) then Tq 212 8 [vR 22 0, vI x1, vI x2, vI x3, vI x4, vI x5, vJ, vI x7, vJ] [vI s2] M Q else Tq 212 9 [vR 22 0, vI x1, vI x2, vI x3, vI x4, vI x5, vJ, vI x7, vJ] [vI 1, vI s2] M Q) :=
  (show Bq 212 de_212 (List.drop 18 bk_212_7) [vR 22 0, vI x1, vI x2, vI x3, vI x4, vI x5, vI x6, vI x7, vI x8] [vR 22031 0, vI s1, vI s2] M Q ↔ (((0 : Int) ≤ x5 ∧ x5 < 2880) ∧ if ¬ s1 = M 22031 0 x5 then Tq 212 8 [vR 22 0, vI x1, vI x2, vI x3, vI x4, vI x5, vJ, vI x7, vJ] [vI s2] M Q else Bq 212 de_212 (List.drop 24 bk_212_7) [vR 22 0, vI x1, vI x2, vI x3, vI x4, vI x5, vI x6, vI x7, vI x8] [vI x8, vR 22031 0, vI s2] M Q) from Iff.rfl).trans (by simp only [t212_7_c24])
theorem t212_7_c12 {x1 x2 x3 x4 x5 x6 x7 x8 s0 : Int} {M : Mem} {Q : AR → Mem → Prop} : Bq 212 de_212 (List.drop 12 bk_212_7) [vR 22 0, vI x1, vI x2, vI x3, vI x4, vI x5, vI x6, vI x7, vI x8] [vI s0] M Q ↔ (((0 : Int) ≤ x8 ∧ x8 < 2880) ∧ ((0 : Int) ≤ x5 ∧ x5 < 2880) ∧ if ¬ M 22031 0 x8 = M 22031 0 x5 then Tq 212 8 [vR 22 0, vI x1, vI x2, vI x3, vI x4, vI x5, vJ, vI x7, vJ] [vI s0] M Q else ((0 : Int) ≤ w32 (x8 + 2) ∧ w32 (x8 + 2) < 2880) ∧ ((0 : Int) ≤ w32 (x5 + 2) ∧ w32 (x5 + 2) < 2880) ∧ if ¬ M 22031 0 (w32 (x8 + 2)) = M 22031 0 (w32 (x5 + 2)) then Tq 212 8 [vR 22 0, vI x1, vI x2, vI x3, vI x4, vI x5, vJ, vI x7, vJ] [vI s0] M Q else Tq 212 9 [vR 22 0, vI x1, vI x2, vI x3, vI x4, vI x5, vJ, vI x7, vJ] [vI 1, vI s0] M Q) :=
  (show Bq 212 de_212 (List.drop 12 bk_212_7) [vR 22 0, vI x1, vI x2, vI x3, vI x4, vI x5, vI x6, vI x7, vI x8] [vI s0] M Q ↔ (((0 : Int) ≤ x8 ∧ x8 < 2880) ∧ Bq 212 de_212 (List.drop 18 bk_212_7) [vR 22 0, vI x1, vI x2, vI x3, vI x4, vI x5, vI x6, vI x7, vI x8] [vR 22031 0, vI (M 22031 0 x8), vI s0] M Q) from Iff.rfl).trans (by simp only [t212_7_c18])
theorem t212_7_c6 {x1 x2 x3 x4 x5 x6 x7 s0 s1 s2 : Int} {M : Mem} {Q : AR → Mem → Prop} : Bq 212 de_212 (List.drop 6 bk_212_7) [vR 22 0, vI x1, vI x2, vI x3, vI x4, vI x5, vI x6, vI x7, vJ] [vI s0, vI s1, vI s2] M Q ↔ (((0 : Int) ≤ w32 (s2 * (w32 (w32 (s1 * s0) + x7))) ∧ w32 (s2 * (w32 (w32 (s1 * s0) + x7))) < 2880) ∧ ((0 : Int) ≤ x5 ∧ x5 < 2880) ∧ if ¬ M 22031 0 (w32 (s2 * (w32 (w32 (s1 * s0) + x7)))) = M 22031 0 x5 then Tq 212 8 [vR 22 0, vI x1, vI x2, vI x3, vI x4, vI x5, vJ, vI x7, vJ] [vI x6] M Q else ((0 : Int) ≤ w32 (w32 (s2 * (w32 (w32 (s1 * s0) + x7))) + 2) ∧ w32 (w32 (s2 * (w32 (w32 (s1 * s0) + x7))) + 2) < 2880) ∧ ((0 : Int) ≤ w32 (x5 + 2) ∧ w32 (x5 + 2) < 2880) ∧ if ¬ M 22031 0 (w32 (w32 (s2 * (w32 (w32 (s1 * s0) + x7))) + 2)) = M 22031 0 (w32 (x5 + 2)) then Tq 212 8 [vR 22 0, vI x1, vI x2, vI x3, vI x4, vI x5, vJ, vI x7, vJ] [vI x6] M Q else Tq 212 9 [vR 22 0, vI x1, vI x2, vI x3, vI x4, vI x5, vJ, vI x7, vJ] [vI 1, vI x6] M Q) :=
  (show Bq 212 de_212 (List.drop 6 bk_212_7) [vR 22 0, vI x1, vI x2, vI x3, vI x4, vI x5, vI x6, vI x7, vJ] [vI s0, vI s1, vI s2] M Q ↔ (Bq 212 de_212 (List.drop 12 bk_212_7) [vR 22 0, vI x1, vI x2, vI x3, vI x4, vI x5, vI x6, vI x7, vI (w32 (s2 * (w32 (w32 (s1 * s0) + x7))))] [vI x6] M Q) from Iff.rfl).trans (by simp only [t212_7_c12])
theorem t212_7 {x1 x2 x3 x4 x5 x6 x7 : Int} {M : Mem} {Q : AR → Mem → Prop} : Tq 212 7 [vR 22 0, vI x1, vI x2, vI x3, vI x4, vI x5, vI x6, vI x7, vJ] [] M Q ↔ (if x3 ≤ x7 then Tq 212 10 [vR 22 0, vI x1, vI x2, vI x3, vI x4, vI x5, vI x6, vJ, vJ] [] M Q else ((0 : Int) ≤ w32 (5 * (w32 (w32 (24 * x1) + x7))) ∧ w32 (5 * (w32 (w32 (24 * x1) + x7))) < 2880) ∧ ((0 : Int) ≤ x5 ∧ x5 < 2880) ∧ if ¬ M 22031 0 (w32 (5 * (w32 (w32 (24 * x1) + x7)))) = M 22031 0 x5 then Tq 212 8 [vR 22 0, vI x1, vI x2, vI x3, vI x4, vI x5, vJ, vI x7, vJ] [vI x6] M Q else ((0 : Int) ≤ w32 (w32 (5 * (w32 (w32 (24 * x1) + x7))) + 2) ∧ w32 (w32 (5 * (w32 (w32 (24 * x1) + x7))) + 2) < 2880) ∧ ((0 : Int) ≤ w32 (x5 + 2) ∧ w32 (x5 + 2) < 2880) ∧ if ¬ M 22031 0 (w32 (w32 (5 * (w32 (w32 (24 * x1) + x7))) + 2)) = M 22031 0 (w32 (x5 + 2)) then Tq 212 8 [vR 22 0, vI x1, vI x2, vI x3, vI x4, vI x5, vJ, vI x7, vJ] [vI x6] M Q else Tq 212 9 [vR 22 0, vI x1, vI x2, vI x3, vI x4, vI x5, vJ, vI x7, vJ] [vI 1, vI x6] M Q) :=
  (show Tq 212 7 [vR 22 0, vI x1, vI x2, vI x3, vI x4, vI x5, vI x6, vI x7, vJ] [] M Q ↔ (if x3 ≤ x7 then Tq 212 10 [vR 22 0, vI x1, vI x2, vI x3, vI x4, vI x5, vI x6, vJ, vJ] [] M Q else Bq 212 de_212 (List.drop 6 bk_212_7) [vR 22 0, vI x1, vI x2, vI x3, vI x4, vI x5, vI x6, vI x7, vJ] [vI x1, vI 24, vI 5] M Q) from Tq_blk (is := bk_212_7) (dd := de_212) rfl rfl).trans (by simp only [t212_7_c6])
/-- EarthOfficeModel merge block at 159 -/
theorem t212_8 {x1 x2 x3 x4 x5 x7 s0 : Int} {M : Mem} {Q : AR → Mem → Prop} : Tq 212 8 [vR 22 0, vI x1, vI x2, vI x3, vI x4, vI x5, vJ, vI x7, vJ] [vI s0] M Q ↔ (Tq 212 9 [vR 22 0, vI x1, vI x2, vI x3, vI x4, vI x5, vJ, vI x7, vJ] [vI 0, vI s0] M Q) :=
  Tq_blk (is := bk_212_8) (dd := de_212) rfl rfl
/-- EarthOfficeModel merge block at 160 -/
theorem t212_9 {x1 x2 x3 x4 x5 x7 s0 s1 : Int} {M : Mem} {Q : AR → Mem → Prop} : Tq 212 9 [vR 22 0, vI x1, vI x2, vI x3, vI x4, vI x5, vJ, vI x7, vJ] [vI s0, vI s1] M Q ↔ (Tq 212 7 [vR 22 0, vI x1, vI x2, vI x3, vI x4, vI x5, vI (or32 s1 s0), vI (w32 (x7 + 1)), vJ] [] M Q) :=
  Tq_blk (is := bk_212_9) (dd := de_212) rfl rfl
/-- EarthOfficeModel merge block at 169 -/
theorem t212_10 {x1 x2 x3 x4 x5 x6 : Int} {M : Mem} {Q : AR → Mem → Prop} : Tq 212 10 [vR 22 0, vI x1, vI x2, vI x3, vI x4, vI x5, vI x6, vJ, vJ] [] M Q ↔ (if ¬ x6 = 0 then Tq 212 13 [vR 22 0, vI x1, vI x2, vI x3, vI x4, vJ, vJ, vJ, vJ] [] M Q else Tq 212 11 [vR 22 0, vI x1, vI x2, vI x3, vI x4, vI x5, vJ, vI 0, vJ] [] M Q) :=
  Tq_blk (is := bk_212_10) (dd := de_212) rfl rfl
/-- EarthOfficeModel merge block at 177 -/
theorem t212_11_c18 {x1 x2 x3 x4 x5 x7 s1 : Int} {M : Mem} {Q : AR → Mem → Prop} : Bq 212 de_212 (List.drop 18 bk_212_11) [vR 22 0, vI x1, vI x2, vI x3, vI x4, vI x5, vJ, vI x7, vJ] [vR 22 0, vI s1, vR 22031 0] M Q ↔ (((0 : Int) ≤ w32 (x5 + x7) ∧ w32 (x5 + x7) < 2880) ∧ ((0 : Int) ≤ s1 ∧ s1 < 2880) ∧ bd (mset M 22031 0 s1 (M 22031 0 (w32 (x5 + x7)))) fun M1 => Tq 212 11 [vR 22 0, vI x1, vI x2, vI x3, vI x4, vI x5, vJ, vI (w32 (x7 + 1)), vJ] [] M1 Q) :=
  Iff.rfl
theorem t212_11_c12 {x1 x2 x3 x4 x5 x7 s0 s2 s3 : Int} {M : Mem} {Q : AR → Mem → Prop} : Bq 212 de_212 (List.drop 12 bk_212_11) [vR 22 0, vI x1, vI x2, vI x3, vI x4, vI x5, vJ, vI x7, vJ] [vI s0, vR 22030 0, vI s2, vI s3, vR 22031 0] M Q ↔ (((0 : Int) ≤ s0 ∧ s0 < 24) ∧ ((0 : Int) ≤ w32 (x5 + x7) ∧ w32 (x5 + x7) < 2880) ∧ ((0 : Int) ≤ w32 (w32 (s3 * (w32 (s2 + M 22030 0 s0))) + x7) ∧ w32 (w32 (s3 * (w32 (s2 + M 22030 0 s0))) + x7) < 2880) ∧ bd (mset M 22031 0 (w32 (w32 (s3 * (w32 (s2 + M 22030 0 s0))) + x7)) (M 22031 0 (w32 (x5 + x7)))) fun M1 => Tq 212 11 [vR 22 0, vI x1, vI x2, vI x3, vI x4, vI x5, vJ, vI (w32 (x7 + 1)), vJ] [] M1 Q) :=
  (show Bq 212 de_212 (List.drop 12 bk_212_11) [vR 22 0, vI x1, vI x2, vI x3, vI x4, vI x5, vJ, vI x7, vJ] [vI s0, vR 22030 0, vI s2, vI s3, vR 22031 0] M Q ↔ (((0 : Int) ≤ s0 ∧ s0 < 24) ∧ Bq 212 de_212 (List.drop 18 bk_212_11) [vR 22 0, vI x1, vI x2, vI x3, vI x4, vI x5, vJ, vI x7, vJ] [vR 22 0, vI (w32 (w32 (s3 * (w32 (s2 + M 22030 0 s0))) + x7)), vR 22031 0] M Q) from Iff.rfl).trans (by simp only [t212_11_c18])
theorem t212_11_c6 {x1 x2 x3 x4 x5 x7 s0 : Int} {M : Mem} {Q : AR → Mem → Prop} : Bq 212 de_212 (List.drop 6 bk_212_11) [vR 22 0, vI x1, vI x2, vI x3, vI x4, vI x5, vJ, vI x7, vJ] [vI s0, vR 22031 0] M Q ↔ (((0 : Int) ≤ x1 ∧ x1 < 24) ∧ ((0 : Int) ≤ w32 (x5 + x7) ∧ w32 (x5 + x7) < 2880) ∧ ((0 : Int) ≤ w32 (w32 (s0 * (w32 (w32 (24 * x1) + M 22030 0 x1))) + x7) ∧ w32 (w32 (s0 * (w32 (w32 (24 * x1) + M 22030 0 x1))) + x7) < 2880) ∧ bd (mset M 22031 0 (w32 (w32 (s0 * (w32 (w32 (24 * x1) + M 22030 0 x1))) + x7)) (M 22031 0 (w32 (x5 + x7)))) fun M1 => Tq 212 11 [vR 22 0, vI x1, vI x2, vI x3, vI x4, vI x5, vJ, vI (w32 (x7 + 1)), vJ] [] M1 Q) :=
  (show Bq 212 de_212 (List.drop 6 bk_212_11) [vR 22 0, vI x1, vI x2, vI x3, vI x4, vI x5, vJ, vI x7, vJ] [vI s0, vR 22031 0] M Q ↔ (Bq 212 de_212 (List.drop 12 bk_212_11) [vR 22 0, vI x1, vI x2, vI x3, vI x4, vI x5, vJ, vI x7, vJ] [vI x1, vR 22030 0, vI (w32 (24 * x1)), vI s0, vR 22031 0] M Q) from Iff.rfl).trans (by simp only [t212_11_c12])
theorem t212_11 {x1 x2 x3 x4 x5 x7 : Int} {M : Mem} {Q : AR → Mem → Prop} : Tq 212 11 [vR 22 0, vI x1, vI x2, vI x3, vI x4, vI x5, vJ, vI x7, vJ] [] M Q ↔ (if (5 : Int) ≤ x7 then Tq 212 12 [vR 22 0, vI x1, vI x2, vI x3, vI x4, vJ, vJ, vJ, vJ] [] M Q else ((0 : Int) ≤ x1 ∧ x1 < 24) ∧ ((0 : Int) ≤ w32 (x5 + x7) ∧ w32 (x5 + x7) < 2880) ∧ ((0 : Int) ≤ w32 (w32 (5 * (w32 (w32 (24 * x1) + M 22030 0 x1))) + x7) ∧ w32 (w32 (5 * (w32 (w32 (24 * x1) + M 22030 0 x1))) + x7) < 2880) ∧ bd (mset M 22031 0 (w32 (w32 (5 * (w32 (w32 (24 * x1) + M 22030 0 x1))) + x7)) (M 22031 0 (w32 (x5 + x7)))) fun M1 => Tq 212 11 [vR 22 0, vI x1, vI x2, vI x3, vI x4, vI x5, vJ, vI (w32 (x7 + 1)), vJ] [] M1 Q) :=
  (show Tq 212 11 [vR 22 0, vI x1, vI x2, vI x3, vI x4, vI x5, vJ, vI x7, vJ] [] M Q ↔ (if (5 : Int) ≤ x7 then Tq 212 12 [vR 22 0, vI x1, vI x2, vI x3, vI x4, vJ, vJ, vJ, vJ] [] M Q else Bq 212 de_212 (List.drop 6 bk_212_11) [vR 22 0, vI x1, vI x2, vI x3, vI x4, vI x5, vJ, vI x7, vJ] [vI 5, vR 22031 0] M Q) from Tq_blk (is := bk_212_11) (dd := de_212) rfl rfl).trans (by simp only [t212_11_c6])
/-- EarthOfficeModel merge block at 220 -/
theorem t212_12 {x1 x2 x3 x4 : Int} {M : Mem} {Q : AR → Mem → Prop} : Tq 212 12 [vR 22 0, vI x1, vI x2, vI x3, vI x4, vJ, vJ, vJ, vJ] [] M Q ↔ (((0 : Int) ≤ x1 ∧ x1 < 24) ∧ ((0 : Int) ≤ x1 ∧ x1 < 24) ∧ bd (mset M 22030 0 x1 (w32 (M 22030 0 x1 + 1))) fun M1 => Tq 212 13 [vR 22 0, vI x1, vI x2, vI x3, vI x4, vJ, vJ, vJ, vJ] [] M1 Q) :=
  Tq_blk (is := bk_212_12) (dd := de_212) rfl rfl
/-- EarthOfficeModel merge block at 230 -/
theorem t212_13 {x1 x2 x3 x4 : Int} {M : Mem} {Q : AR → Mem → Prop} : Tq 212 13 [vR 22 0, vI x1, vI x2, vI x3, vI x4, vJ, vJ, vJ, vJ] [] M Q ↔ (Tq 212 6 [vR 22 0, vI x1, vI x2, vI x3, vI (w32 (x4 + 1)), vJ, vJ, vJ, vJ] [] M Q) :=
  Tq_blk (is := bk_212_13) (dd := de_212) rfl rfl
/-- EarthOfficeModel merge block at 236 -/
theorem t212_14_c14 {x1 x2 : Int} {M : Mem} {Q : AR → Mem → Prop} : Bq 212 de_212 (List.drop 14 bk_212_14) [vR 22 0, vI x1, vI x2, vJ, vJ, vJ, vJ, vJ, vJ] [] M Q ↔ (((0 : Int) ≤ x1 ∧ x1 < 24) ∧ Q (.inl (some (vI (M 22030 0 x1)))) M) :=
  Iff.rfl
theorem t212_14_c12 {x1 x2 s0 s1 s2 s3 s4 s5 : Int} {M : Mem} {Q : AR → Mem → Prop} : Bq 212 de_212 (List.drop 12 bk_212_14) [vR 22 0, vI x1, vI x2, vJ, vJ, vJ, vJ, vJ, vJ] [vI s0, vI s1, vI s2, vI s3, vI s4, vI s5, vR 22 0] M Q ↔ (Tq 199 0 [vR 22 0, vI s5, vI s4, vI s3, vI s2, vI s1, vI s0, vI 0, vJ] [] M (kV fun M1 => ((0 : Int) ≤ x1 ∧ x1 < 24) ∧ Q (.inl (some (vI (M1 22030 0 x1)))) M1)) :=
  (show Bq 212 de_212 (List.drop 12 bk_212_14) [vR 22 0, vI x1, vI x2, vJ, vJ, vJ, vJ, vJ, vJ] [vI s0, vI s1, vI s2, vI s3, vI s4, vI s5, vR 22 0] M Q ↔ (Tq 199 0 [vR 22 0, vI s5, vI s4, vI s3, vI s2, vI s1, vI s0, vI 0, vJ] [] M (kV fun M1 => Bq 212 de_212 (List.drop 14 bk_212_14) [vR 22 0, vI x1, vI x2, vJ, vJ, vJ, vJ, vJ, vJ] [] M1 Q)) from Iff.rfl).trans (by simp only [t212_14_c14])
theorem t212_14_c6 {x1 x2 : Int} {M : Mem} {Q : AR → Mem → Prop} : Bq 212 de_212 (List.drop 6 bk_212_14) [vR 22 0, vI x1, vI x2, vJ, vJ, vJ, vJ, vJ, vJ] [vR 22 0] M Q ↔ (Tq 199 0 [vR 22 0, vI 77, vI 2, vI x1, vI x2, vI 0, vI 0, vI 0, vJ] [] M (kV fun M1 => ((0 : Int) ≤ x1 ∧ x1 < 24) ∧ Q (.inl (some (vI (M1 22030 0 x1)))) M1)) :=
  (show Bq 212 de_212 (List.drop 6 bk_212_14) [vR 22 0, vI x1, vI x2, vJ, vJ, vJ, vJ, vJ, vJ] [vR 22 0] M Q ↔ (Bq 212 de_212 (List.drop 12 bk_212_14) [vR 22 0, vI x1, vI x2, vJ, vJ, vJ, vJ, vJ, vJ] [vI 0, vI 0, vI x2, vI x1, vI 2, vI 77, vR 22 0] M Q) from Iff.rfl).trans (by simp only [t212_14_c12])
theorem t212_14 {x1 x2 : Int} {M : Mem} {Q : AR → Mem → Prop} : Tq 212 14 [vR 22 0, vI x1, vI x2, vJ, vJ, vJ, vJ, vJ, vJ] [] M Q ↔ (((0 : Int) ≤ x2 ∧ x2 < 24) ∧ bd (mset M 22035 0 x2 x1) fun M1 => Tq 199 0 [vR 22 0, vI 77, vI 2, vI x1, vI x2, vI 0, vI 0, vI 0, vJ] [] M1 (kV fun M2 => ((0 : Int) ≤ x1 ∧ x1 < 24) ∧ Q (.inl (some (vI (M2 22030 0 x1)))) M2)) :=
  (show Tq 212 14 [vR 22 0, vI x1, vI x2, vJ, vJ, vJ, vJ, vJ, vJ] [] M Q ↔ (((0 : Int) ≤ x2 ∧ x2 < 24) ∧ bd (mset M 22035 0 x2 x1) fun M1 => Bq 212 de_212 (List.drop 6 bk_212_14) [vR 22 0, vI x1, vI x2, vJ, vJ, vJ, vJ, vJ, vJ] [vR 22 0] M1 Q) from Tq_blk (is := bk_212_14) (dd := de_212) rfl rfl).trans (by simp only [t212_14_c6])
/-- EarthOfficeModel isEvent block at 0 -/
theorem t213_0 {x1 : Int} {M : Mem} {Q : AR → Mem → Prop} : Tq 213 0 [vR 22 0, vI x1] [] M Q ↔ (Tq 189 0 [vI x1, vI 0, vI (w32 (M 22 0 28 - 1))] [] M (kI fun v1 M1 => Q (.inl (some (vI (nb v1)))) M1)) :=
  Tq_blk (is := bk_213_0) (dd := de_213) rfl rfl
/-- EarthOfficeModel gauge block at 0 -/
theorem t214_0 {x1 x2 : Int} {M : Mem} {Q : AR → Mem → Prop} : Tq 214 0 [vR 22 0, vI x1, vI x2, vJ] [] M Q ↔ (Tq 197 0 [vI x1, vI x2] [] M (kI fun v1 M1 => if ¬ v1 = 0 then Tq 214 1 [vR 22 0, vI x1, vI x2, vJ] [] M1 Q else Q (.inl (some (vI (-1)))) M1)) :=
  Tq_blk (is := bk_214_0) (dd := de_214) rfl rfl
/-- EarthOfficeModel gauge block at 10 -/
theorem t214_1 {x1 x2 : Int} {M : Mem} {Q : AR → Mem → Prop} : Tq 214 1 [vR 22 0, vI x1, vI x2, vJ] [] M Q ↔ (if M 22 0 43 = (4 : Int) then Tq 214 2 [vJ, vJ, vJ, vJ] [] M Q else Tq 198 0 [vR 22 0, vI 9] [] M (kI fun v1 M1 => if ¬ v1 = 0 then Tq 214 3 [vR 22 0, vI x1, vI x2, vJ] [] M1 Q else Tq 214 2 [vJ, vJ, vJ, vJ] [] M1 Q)) :=
  Tq_blk (is := bk_214_1) (dd := de_214) rfl rfl
/-- EarthOfficeModel gauge block at 27 -/
theorem t214_2 {M : Mem} {Q : AR → Mem → Prop} : Tq 214 2 [vJ, vJ, vJ, vJ] [] M Q ↔ (Q (.inl (some (vI (-3)))) M) :=
  Tq_blk (is := bk_214_2) (dd := de_214) rfl rfl
/-- EarthOfficeModel gauge block at 30 -/
theorem t214_3 {x1 x2 : Int} {M : Mem} {Q : AR → Mem → Prop} : Tq 214 3 [vR 22 0, vI x1, vI x2, vJ] [] M Q ↔ (((0 : Int) ≤ M 22 0 43 ∧ M 22 0 43 < 4) ∧ bd (mset M 22044 0 (M 22 0 43) x1) fun M1 => ((0 : Int) ≤ M1 22 0 43 ∧ M1 22 0 43 < 4) ∧ bd (mset M1 22045 0 (M1 22 0 43) x2) fun M2 => ((0 : Int) ≤ M2 22 0 43 ∧ M2 22 0 43 < 4) ∧ bd (mset M2 22046 0 (M2 22 0 43) 0) fun M3 => ((0 : Int) ≤ M3 22 0 43 ∧ M3 22 0 43 < 4) ∧ bd (mset M3 22047 0 (M3 22 0 43) 0) fun M4 => Tq 214 4 [vR 22 0, vI x1, vI x2, vI 0] [] M4 Q) :=
  Tq_blk (is := bk_214_3) (dd := de_214) rfl rfl
/-- EarthOfficeModel gauge block at 72 -/
theorem t214_4 {x1 x2 x3 : Int} {M : Mem} {Q : AR → Mem → Prop} : Tq 214 4 [vR 22 0, vI x1, vI x2, vI x3] [] M Q ↔ (if (4096 : Int) ≤ x3 then Tq 214 5 [vR 22 0, vI x1, vI x2, vJ] [] M Q else ((0 : Int) ≤ w32 (w32 (4096 * (M 22 0 43)) + x3) ∧ w32 (w32 (4096 * (M 22 0 43)) + x3) < 16384) ∧ bd (mset M 22049 0 (w32 (w32 (4096 * (M 22 0 43)) + x3)) (-99999999)) fun M1 => Tq 214 4 [vR 22 0, vI x1, vI x2, vI (w32 (x3 + 1))] [] M1 Q) :=
  Tq_blk (is := bk_214_4) (dd := de_214) rfl rfl
/-- EarthOfficeModel gauge block at 102 -/
theorem t214_5 {x1 x2 : Int} {M : Mem} {Q : AR → Mem → Prop} : Tq 214 5 [vR 22 0, vI x1, vI x2, vJ] [] M Q ↔ (bd (mset M 22 0 43 (w32 (M 22 0 43 + 1))) fun M1 => Tq 199 0 [vR 22 0, vI 71, vI 2, vI x1, vI x2, vI 0, vI 0, vI 0, vJ] [] M1 (kV fun M2 => Q (.inl (some (vI (w32 (M2 22 0 43 - 1))))) M2)) :=
  Tq_blk (is := bk_214_5) (dd := de_214) rfl rfl
/-- EarthOfficeModel mean block at 0 -/
theorem t215_0 {x1 x2 : Int} {M : Mem} {Q : AR → Mem → Prop} : Tq 215 0 [vR 22 0, vI x1, vI x2, vJ] [] M Q ↔ (Tq 216 0 [vR 22 0, vI x1] [] M (kI fun v1 M1 => if v1 = 0 then Tq 215 1 [vJ, vJ, vJ, vJ] [] M1 Q else Tq 189 0 [vI x2, vI (-20000), vI 20000] [] M1 (kI fun v2 M2 => if ¬ v2 = 0 then Tq 215 2 [vR 22 0, vI x1, vI x2, vJ] [] M2 Q else Tq 215 1 [vJ, vJ, vJ, vJ] [] M2 Q))) :=
  Tq_blk (is := bk_215_0) (dd := de_215) rfl rfl
/-- EarthOfficeModel mean block at 21 -/
theorem t215_1 {M : Mem} {Q : AR → Mem → Prop} : Tq 215 1 [vJ, vJ, vJ, vJ] [] M Q ↔ (Q (.inl (some (vI (-1)))) M) :=
  Tq_blk (is := bk_215_1) (dd := de_215) rfl rfl
/-- EarthOfficeModel mean block at 23 -/
theorem t215_2 {x1 x2 : Int} {M : Mem} {Q : AR → Mem → Prop} : Tq 215 2 [vR 22 0, vI x1, vI x2, vJ] [] M Q ↔ (Tq 198 0 [vR 22 0, vI 9] [] M (kI fun v1 M1 => if ¬ v1 = 0 then Tq 215 3 [vR 22 0, vI x1, vI x2, vJ] [] M1 Q else Q (.inl (some (vI (-3)))) M1)) :=
  Tq_blk (is := bk_215_2) (dd := de_215) rfl rfl
/-- EarthOfficeModel mean block at 35 -/
theorem t215_3 {x1 x2 : Int} {M : Mem} {Q : AR → Mem → Prop} : Tq 215 3 [vR 22 0, vI x1, vI x2, vJ] [] M Q ↔ (((0 : Int) ≤ x1 ∧ x1 < 4) ∧ ((0 : Int) ≤ x1 ∧ x1 < 4) ∧ bd (mset M 22046 0 x1 x2) fun M1 => Tq 199 0 [vR 22 0, vI 78, vI 2, vI x1, vI x2, vI 0, vI 0, vI 0, vJ] [] M1 (kV fun M2 => Q (.inl (some (vI (M 22046 0 x1)))) M2)) :=
  Tq_blk (is := bk_215_3) (dd := de_215) rfl rfl
/-- EarthOfficeModel isGauge block at 0 -/
theorem t216_0 {x1 : Int} {M : Mem} {Q : AR → Mem → Prop} : Tq 216 0 [vR 22 0, vI x1] [] M Q ↔ (Tq 189 0 [vI x1, vI 0, vI (w32 (M 22 0 43 - 1))] [] M (kI fun v1 M1 => Q (.inl (some (vI (nb v1)))) M1)) :=
  Tq_blk (is := bk_216_0) (dd := de_216) rfl rfl
/-- EarthOfficeModel constituent block at 0 -/
theorem t217_0 {x1 x2 x3 x4 : Int} {M : Mem} {Q : AR → Mem → Prop} : Tq 217 0 [vR 22 0, vI x1, vI x2, vI x3, vI x4, vJ] [] M Q ↔ (Tq 216 0 [vR 22 0, vI x1] [] M (kI fun v1 M1 => if v1 = 0 then Tq 217 1 [vJ, vJ, vJ, vJ, vJ, vJ] [] M1 Q else Tq 189 0 [vI x2, vI 0, vI 65535] [] M1 (kI fun v2 M2 => if v2 = 0 then Tq 217 1 [vJ, vJ, vJ, vJ, vJ, vJ] [] M2 Q else Tq 189 0 [vI x4, vI 0, vI 65535] [] M2 (kI fun v3 M3 => if v3 = 0 then Tq 217 1 [vJ, vJ, vJ, vJ, vJ, vJ] [] M3 Q else Tq 189 0 [vI x3, vI 0, vI 9999] [] M3 (kI fun v4 M4 => if ¬ v4 = 0 then Tq 217 2 [vR 22 0, vI x1, vI x2, vI x3, vI x4, vJ] [] M4 Q else Tq 217 1 [vJ, vJ, vJ, vJ, vJ, vJ] [] M4 Q))))) :=
  Tq_blk (is := bk_217_0) (dd := de_217) rfl rfl
/-- EarthOfficeModel constituent block at 42 -/
theorem t217_1 {M : Mem} {Q : AR → Mem → Prop} : Tq 217 1 [vJ, vJ, vJ, vJ, vJ, vJ] [] M Q ↔ (Q (.inl (some (vI (-1)))) M) :=
  Tq_blk (is := bk_217_1) (dd := de_217) rfl rfl
/-- EarthOfficeModel constituent block at 44 -/
theorem t217_2 {x1 x2 x3 x4 : Int} {M : Mem} {Q : AR → Mem → Prop} : Tq 217 2 [vR 22 0, vI x1, vI x2, vI x3, vI x4, vJ] [] M Q ↔ (((0 : Int) ≤ x1 ∧ x1 < 4) ∧ if M 22047 0 x1 = (6 : Int) then Tq 217 3 [vJ, vJ, vJ, vJ, vJ, vJ] [] M Q else Tq 198 0 [vR 22 0, vI 17] [] M (kI fun v1 M1 => if ¬ v1 = 0 then Tq 217 4 [vR 22 0, vI x1, vI x2, vI x3, vI x4, vJ] [] M1 Q else Tq 217 3 [vJ, vJ, vJ, vJ, vJ, vJ] [] M1 Q)) :=
  Tq_blk (is := bk_217_2) (dd := de_217) rfl rfl
/-- EarthOfficeModel constituent block at 64 -/
theorem t217_3 {M : Mem} {Q : AR → Mem → Prop} : Tq 217 3 [vJ, vJ, vJ, vJ, vJ, vJ] [] M Q ↔ (Q (.inl (some (vI (-3)))) M) :=
  Tq_blk (is := bk_217_3) (dd := de_217) rfl rfl
/-- EarthOfficeModel constituent block at 67 -/
theorem t217_4 {x1 x2 x3 x4 : Int} {M : Mem} {Q : AR → Mem → Prop} : Tq 217 4 [vR 22 0, vI x1, vI x2, vI x3, vI x4, vJ] [] M Q ↔ (((0 : Int) ≤ x1 ∧ x1 < 4) ∧ ((0 : Int) ≤ w32 (w32 (18 * x1) + w32 (3 * (M 22047 0 x1))) ∧ w32 (w32 (18 * x1) + w32 (3 * (M 22047 0 x1))) < 72) ∧ bd (mset M 22048 0 (w32 (w32 (18 * x1) + w32 (3 * (M 22047 0 x1)))) x2) fun M1 => ((0 : Int) ≤ w32 (w32 (w32 (18 * x1) + w32 (3 * (M 22047 0 x1))) + 1) ∧ w32 (w32 (w32 (18 * x1) + w32 (3 * (M 22047 0 x1))) + 1) < 72) ∧ bd (mset M1 22048 0 (w32 (w32 (w32 (18 * x1) + w32 (3 * (M 22047 0 x1))) + 1)) x3) fun M2 => ((0 : Int) ≤ w32 (w32 (w32 (18 * x1) + w32 (3 * (M 22047 0 x1))) + 2) ∧ w32 (w32 (w32 (18 * x1) + w32 (3 * (M 22047 0 x1))) + 2) < 72) ∧ bd (mset M2 22048 0 (w32 (w32 (w32 (18 * x1) + w32 (3 * (M 22047 0 x1))) + 2)) x4) fun M3 => ((0 : Int) ≤ x1 ∧ x1 < 4) ∧ ((0 : Int) ≤ x1 ∧ x1 < 4) ∧ bd (mset M3 22047 0 x1 (w32 (M3 22047 0 x1 + 1))) fun M4 => Tq 199 0 [vR 22 0, vI 67, vI 4, vI x1, vI x2, vI x3, vI x4, vI 0, vJ] [] M4 (kV fun M5 => ((0 : Int) ≤ x1 ∧ x1 < 4) ∧ Q (.inl (some (vI (w32 (M5 22047 0 x1 - 1))))) M5)) :=
  Tq_blk (is := bk_217_4) (dd := de_217) rfl rfl
/-- EarthOfficeModel level block at 0 -/
theorem t218_0 {x1 x2 x3 : Int} {M : Mem} {Q : AR → Mem → Prop} : Tq 218 0 [vR 22 0, vI x1, vI x2, vI x3] [] M Q ↔ (Tq 216 0 [vR 22 0, vI x1] [] M (kI fun v1 M1 => if v1 = 0 then Tq 218 1 [vJ, vJ, vJ, vJ] [] M1 Q else Tq 219 0 [vI x2] [] M1 (kI fun v2 M2 => if v2 = 0 then Tq 218 1 [vJ, vJ, vJ, vJ] [] M2 Q else Tq 189 0 [vI x3, vI (-20000), vI 20000] [] M2 (kI fun v3 M3 => if ¬ v3 = 0 then Tq 218 2 [vR 22 0, vI x1, vI x2, vI x3] [] M3 Q else Tq 218 1 [vJ, vJ, vJ, vJ] [] M3 Q)))) :=
  Tq_blk (is := bk_218_0) (dd := de_218) rfl rfl
/-- EarthOfficeModel level block at 28 -/
theorem t218_1 {M : Mem} {Q : AR → Mem → Prop} : Tq 218 1 [vJ, vJ, vJ, vJ] [] M Q ↔ (Q (.inl (some (vI (-1)))) M) :=
  Tq_blk (is := bk_218_1) (dd := de_218) rfl rfl
/-- EarthOfficeModel level block at 30 -/
theorem t218_2 {x1 x2 x3 : Int} {M : Mem} {Q : AR → Mem → Prop} : Tq 218 2 [vR 22 0, vI x1, vI x2, vI x3] [] M Q ↔ (((0 : Int) ≤ w32 (w32 (4096 * x1) + x2) ∧ w32 (w32 (4096 * x1) + x2) < 16384) ∧ if M 22049 0 (w32 (w32 (4096 * x1) + x2)) = (-99999999) then Tq 218 3 [vR 22 0, vI x1, vI x2, vI x3] [] M Q else Q (.inl (some (vI (-2)))) M) :=
  Tq_blk (is := bk_218_2) (dd := de_218) rfl rfl
/-- EarthOfficeModel level block at 50 -/
theorem t218_3 {x1 x2 x3 : Int} {M : Mem} {Q : AR → Mem → Prop} : Tq 218 3 [vR 22 0, vI x1, vI x2, vI x3] [] M Q ↔ (Tq 198 0 [vR 22 0, vI 13] [] M (kI fun v1 M1 => if ¬ v1 = 0 then Tq 218 4 [vR 22 0, vI x1, vI x2, vI x3] [] M1 Q else Q (.inl (some (vI (-3)))) M1)) :=
  Tq_blk (is := bk_218_3) (dd := de_218) rfl rfl
/-- EarthOfficeModel level block at 62 -/
theorem t218_4 {x1 x2 x3 : Int} {M : Mem} {Q : AR → Mem → Prop} : Tq 218 4 [vR 22 0, vI x1, vI x2, vI x3] [] M Q ↔ (((0 : Int) ≤ w32 (w32 (4096 * x1) + x2) ∧ w32 (w32 (4096 * x1) + x2) < 16384) ∧ bd (mset M 22049 0 (w32 (w32 (4096 * x1) + x2)) x3) fun M1 => Tq 199 0 [vR 22 0, vI 76, vI 3, vI x1, vI x2, vI x3, vI 0, vI 0, vJ] [] M1 (kV fun M2 => Q (.inl (some (vI 0))) M2)) :=
  Tq_blk (is := bk_218_4) (dd := de_218) rfl rfl
/-- EarthOfficeModel isTick block at 0 -/
theorem t219_0 {x0 : Int} {M : Mem} {Q : AR → Mem → Prop} : Tq 219 0 [vI x0] [] M Q ↔ (Tq 189 0 [vI x0, vI 0, vI 4095] [] M (kI fun v1 M1 => Q (.inl (some (vI (nb v1)))) M1)) :=
  Tq_blk (is := bk_219_0) (dd := de_219) rfl rfl
/-- EarthOfficeModel rule block at 0 -/
theorem t220_0 {M : Mem} {Q : AR → Mem → Prop} : Tq 220 0 [vR 22 0, vJ, vJ, vJ] [] M Q ↔ (bd (mset M 22 0 3 0) fun M1 => Tq 221 0 [vR 22 0, vR 22099 8, vI (M 22 0 3), vI 0, vI 0] [] M1 (kI fun v1 M2 => if ¬ M2 22 0 69 = (-99999999) then Tq 220 1 [vR 22 0, vI (M 22 0 3), vJ, vJ] [] M2 Q else Tq 252 0 [vR 22 0, vJ, vJ] [] M2 (kV fun M3 => Tq 220 1 [vR 22 0, vI (M 22 0 3), vJ, vJ] [] M3 Q))) :=
  Tq_blk (is := bk_220_0) (dd := de_220) rfl rfl
/-- EarthOfficeModel rule block at 35 -/
theorem t220_1 {x1 : Int} {M : Mem} {Q : AR → Mem → Prop} : Tq 220 1 [vR 22 0, vI x1, vJ, vJ] [] M Q ↔ (if M 22 0 69 = (-99999999) then Tq 220 2 [vR 22 0, vI x1, vJ, vJ] [] M Q else Q (.inl (some (vI (w32 ((-10) - (M 22 0 69)))))) M) :=
  Tq_blk (is := bk_220_1) (dd := de_220) rfl rfl
/-- EarthOfficeModel rule block at 52 -/
theorem t220_2 {x1 : Int} {M : Mem} {Q : AR → Mem → Prop} : Tq 220 2 [vR 22 0, vI x1, vJ, vJ] [] M Q ↔ (if M 22 0 57 = (8 : Int) then Tq 220 3 [vJ, vJ, vJ, vJ] [] M Q else Tq 198 0 [vR 22 0, vI (w32 (1 + x1))] [] M (kI fun v1 M1 => if ¬ v1 = 0 then Tq 220 4 [vR 22 0, vI x1, vJ, vJ] [] M1 Q else Tq 220 3 [vJ, vJ, vJ, vJ] [] M1 Q)) :=
  Tq_blk (is := bk_220_2) (dd := de_220) rfl rfl
/-- EarthOfficeModel rule block at 71 -/
theorem t220_3 {M : Mem} {Q : AR → Mem → Prop} : Tq 220 3 [vJ, vJ, vJ, vJ] [] M Q ↔ (Q (.inl (some (vI (-3)))) M) :=
  Tq_blk (is := bk_220_3) (dd := de_220) rfl rfl
/-- EarthOfficeModel rule block at 74 -/
theorem t220_4 {x1 : Int} {M : Mem} {Q : AR → Mem → Prop} : Tq 220 4 [vR 22 0, vI x1, vJ, vJ] [] M Q ↔ (Tq 220 5 [vR 22 0, vI x1, vJ, vI 0] [] M Q) :=
  Tq_blk (is := bk_220_4) (dd := de_220) rfl rfl
/-- EarthOfficeModel rule block at 76 -/
theorem t220_5 {x1 x3 : Int} {M : Mem} {Q : AR → Mem → Prop} : Tq 220 5 [vR 22 0, vI x1, vJ, vI x3] [] M Q ↔ (if x1 ≤ x3 then Tq 220 6 [vR 22 0, vI x1, vJ, vJ] [] M Q else ((0 : Int) ≤ M 22 0 57 ∧ M 22 0 57 < 8) ∧ ((0 : Int) ≤ x3 ∧ x3 < 400) ∧ ((0 : Int) ≤ x3 ∧ x3 < 400) ∧ bd (mset M 22099 (M 22 0 57) x3 (w8 (M 22099 8 x3))) fun M1 => Tq 220 5 [vR 22 0, vI x1, vJ, vI (w32 (x3 + 1))] [] M1 Q) :=
  Tq_blk (is := bk_220_5) (dd := de_220) rfl rfl
/-- EarthOfficeModel rule block at 104 -/
theorem t220_6 {x1 : Int} {M : Mem} {Q : AR → Mem → Prop} : Tq 220 6 [vR 22 0, vI x1, vJ, vJ] [] M Q ↔ (((0 : Int) ≤ M 22 0 57 ∧ M 22 0 57 < 8) ∧ bd (mset M 22059 0 (M 22 0 57) x1) fun M1 => ((0 : Int) ≤ M1 22 0 57 ∧ M1 22 0 57 < 8) ∧ bd (mset M1 22060 0 (M1 22 0 57) (w32 (M1 22 0 68 + 1))) fun M2 => ((0 : Int) ≤ M2 22 0 57 ∧ M2 22 0 57 < 8) ∧ bd (mset M2 22061 0 (M2 22 0 57) (M2 22 0 70)) fun M3 => ((0 : Int) ≤ M3 22 0 57 ∧ M3 22 0 57 < 8) ∧ bd (mset M3 22062 0 (M3 22 0 57) (nb 0)) fun M4 => ((0 : Int) ≤ M4 22 0 57 ∧ M4 22 0 57 < 8) ∧ bd (mset M4 22063 0 (M4 22 0 57) 0) fun M5 => Tq 220 7 [vR 22 0, vI x1, vJ, vI 0] [] M5 Q) :=
  Tq_blk (is := bk_220_6) (dd := de_220) rfl rfl
/-- EarthOfficeModel rule block at 164 -/
theorem t220_7 {x1 x3 : Int} {M : Mem} {Q : AR → Mem → Prop} : Tq 220 7 [vR 22 0, vI x1, vJ, vI x3] [] M Q ↔ (if (64 : Int) ≤ x3 then Tq 220 8 [vR 22 0, vI x1, vJ, vJ] [] M Q else ((0 : Int) ≤ w32 (w32 (64 * (M 22 0 57)) + x3) ∧ w32 (w32 (64 * (M 22 0 57)) + x3) < 512) ∧ bd (mset M 22064 0 (w32 (w32 (64 * (M 22 0 57)) + x3)) 0) fun M1 => Tq 220 7 [vR 22 0, vI x1, vJ, vI (w32 (x3 + 1))] [] M1 Q) :=
  Tq_blk (is := bk_220_7) (dd := de_220) rfl rfl
/-- EarthOfficeModel rule block at 191 -/
theorem t220_8 {x1 : Int} {M : Mem} {Q : AR → Mem → Prop} : Tq 220 8 [vR 22 0, vI x1, vJ, vJ] [] M Q ↔ (bd (mset M 22 0 57 (w32 (M 22 0 57 + 1))) fun M1 => Tq 200 0 [vR 22 0, vI 84] [] M1 (kV fun M2 => Tq 220 9 [vR 22 0, vI x1, vJ, vI 0] [] M2 Q)) :=
  Tq_blk (is := bk_220_8) (dd := de_220) rfl rfl
/-- EarthOfficeModel rule block at 209 -/
theorem t220_9 {x1 x3 : Int} {M : Mem} {Q : AR → Mem → Prop} : Tq 220 9 [vR 22 0, vI x1, vJ, vI x3] [] M Q ↔ (if x1 ≤ x3 then Tq 220 10 [vR 22 0, vI x1, vJ, vJ] [] M Q else ((0 : Int) ≤ x3 ∧ x3 < 400) ∧ ((0 : Int) ≤ w32 (w32 (M 22 0 5 + 3) + x3) ∧ w32 (w32 (M 22 0 5 + 3) + x3) < 61000) ∧ bd (mset M 22004 0 (w32 (w32 (M 22 0 5 + 3) + x3)) (w8 (M 22099 8 x3))) fun M1 => Tq 220 9 [vR 22 0, vI x1, vJ, vI (w32 (x3 + 1))] [] M1 Q) :=
  Tq_blk (is := bk_220_9) (dd := de_220) rfl rfl
/-- EarthOfficeModel rule block at 239 -/
theorem t220_10 {x1 : Int} {M : Mem} {Q : AR → Mem → Prop} : Tq 220 10 [vR 22 0, vI x1, vJ, vJ] [] M Q ↔ (bd (mset M 22 0 7 (w32 (M 22 0 7 + x1))) fun M1 => Tq 202 0 [vR 22 0] [] M1 (kV fun M2 => Q (.inl (some (vI (w32 (M2 22 0 57 - 1))))) M2)) :=
  Tq_blk (is := bk_220_10) (dd := de_220) rfl rfl
/-- EarthOfficeModel reads block at 0 -/
theorem t221_0 {x1 x2 x3 x4 : Int} {M : Mem} {Q : AR → Mem → Prop} : Tq 221 0 [vR 22 0, vR 22099 x1, vI x2, vI x3, vI x4] [] M Q ↔ (bd (mset M 22 0 65 x1) fun M1 => bd (mset M1 22 0 66 x2) fun M2 => bd (mset M2 22 0 68 0) fun M3 => bd (mset M3 22 0 69 (-99999999)) fun M4 => bd (mset M4 22 0 70 0) fun M5 => bd (mset M5 22 0 71 0) fun M6 => (x4 = 0 ∨ x4 = 1) ∧ bd (mset M6 22 0 72 x4) fun M7 => bd (mset M7 22 0 73 x3) fun M8 => Tq 222 0 [vR 22 0, vJ] [] M8 (kV fun M9 => Tq 225 0 [vR 22 0, vR 31 65] [] M9 (kV fun M10 => if ¬ M10 22 0 69 = (-99999999) then Tq 221 1 [vJ, vJ, vJ, vJ, vJ] [] M10 Q else ((0 : Int) ≤ (if 1 ≤ 14 then 12 + 10 * (14 - 1) else -1) ∧ (if 1 ≤ 14 then 12 + 10 * (14 - 1) else -1) < 153) ∧ Tq 228 0 [vR 22 0, vI 1, vJ] [] M10 (kI fun v1 M11 => if v1 = 0 then Tq 221 1 [vJ, vJ, vJ, vJ, vJ] [] M11 Q else Tq 221 2 [vJ, vJ, vJ, vJ, vJ] [vI 1] M11 Q)))) :=
  Tq_blk (is := bk_221_0) (dd := de_221) rfl rfl
/-- EarthOfficeModel reads block at 74 -/
theorem t221_1 {M : Mem} {Q : AR → Mem → Prop} : Tq 221 1 [vJ, vJ, vJ, vJ, vJ] [] M Q ↔ (Tq 221 2 [vJ, vJ, vJ, vJ, vJ] [vI 0] M Q) :=
  Tq_blk (is := bk_221_1) (dd := de_221) rfl rfl
/-- EarthOfficeModel reads block at 75 -/
theorem t221_2 {s0 : Int} {M : Mem} {Q : AR → Mem → Prop} : Tq 221 2 [vJ, vJ, vJ, vJ, vJ] [vI s0] M Q ↔ (Q (.inl (some (vI (nb s0)))) M) :=
  Tq_blk (is := bk_221_2) (dd := de_221) rfl rfl
/-- EarthOfficeModel next block at 0 -/
theorem t222_0 {M : Mem} {Q : AR → Mem → Prop} : Tq 222 0 [vR 22 0, vJ] [] M Q ↔ (bd (mset M 22 0 67 (M 22 0 68)) fun M1 => Tq 222 1 [vR 22 0, vJ] [] M1 Q) :=
  Tq_blk (is := bk_222_0) (dd := de_222) rfl rfl
/-- EarthOfficeModel next block at 8 -/
theorem t222_1 {M : Mem} {Q : AR → Mem → Prop} : Tq 222 1 [vR 22 0, vJ] [] M Q ↔ (if M 22 0 66 ≤ M 22 0 67 then Tq 222 2 [vR 22 0, vJ] [] M Q else (0 ≤ M 22 0 65) ∧ ((0 : Int) ≤ M 22 0 67 ∧ M 22 0 67 < 400) ∧ if ¬ M 22099 (M 22 0 65) (M 22 0 67) = (32 : Int) then Tq 222 2 [vR 22 0, vJ] [] M Q else bd (mset M 22 0 67 (w32 (M 22 0 67 + 1))) fun M1 => Tq 222 1 [vR 22 0, vJ] [] M1 Q) :=
  Tq_blk (is := bk_222_1) (dd := de_222) rfl rfl
/-- EarthOfficeModel next block at 46 -/
theorem t222_2 {M : Mem} {Q : AR → Mem → Prop} : Tq 222 2 [vR 22 0, vJ] [] M Q ↔ (bd (mset M 22 0 68 (M 22 0 67)) fun M1 => if ¬ M1 22 0 67 = M1 22 0 66 then Tq 222 3 [vR 22 0, vJ] [] M1 Q else Q (.inl none) M1) :=
  Tq_blk (is := bk_222_2) (dd := de_222) rfl rfl
/-- EarthOfficeModel next block at 66 -/
theorem t222_3 {M : Mem} {Q : AR → Mem → Prop} : Tq 222 3 [vR 22 0, vJ] [] M Q ↔ ((0 ≤ M 22 0 65) ∧ ((0 : Int) ≤ M 22 0 67 ∧ M 22 0 67 < 400) ∧ bd (mset M 22 0 68 (w32 (M 22 0 68 + 1))) fun M1 => Tq 223 0 [vI (M 22099 (M 22 0 65) (M 22 0 67))] [] M1 (kI fun v1 M2 => if ¬ v1 = 0 then Tq 222 4 [vR 22 0, vI (M 22099 (M 22 0 65) (M 22 0 67))] [] M2 Q else Tq 224 0 [vI (M 22099 (M 22 0 65) (M 22 0 67))] [] M2 (kI fun v2 M3 => if v2 = 0 then Tq 222 7 [vR 22 0, vI (M 22099 (M 22 0 65) (M 22 0 67))] [] M3 Q else Tq 222 4 [vR 22 0, vI (M 22099 (M 22 0 65) (M 22 0 67))] [] M3 Q))) :=
  Tq_blk (is := bk_222_3) (dd := de_222) rfl rfl
/-- EarthOfficeModel next block at 100 -/
theorem t222_4 {x1 : Int} {M : Mem} {Q : AR → Mem → Prop} : Tq 222 4 [vR 22 0, vI x1] [] M Q ↔ (if M 22 0 66 ≤ M 22 0 68 then Tq 222 10 [vJ, vJ] [] M Q else Tq 223 0 [vI x1] [] M (kI fun v1 M1 => if v1 = 0 then Tq 222 5 [vR 22 0, vI x1] [] M1 Q else (0 ≤ M1 22 0 65) ∧ ((0 : Int) ≤ M1 22 0 68 ∧ M1 22 0 68 < 400) ∧ Tq 223 0 [vI (M1 22099 (M1 22 0 65) (M1 22 0 68))] [] M1 (kI fun v2 M2 => if v2 = 0 then Tq 222 10 [vJ, vJ] [] M2 Q else Tq 222 6 [vR 22 0, vI x1] [] M2 Q))) :=
  Tq_blk (is := bk_222_4) (dd := de_222) rfl rfl
/-- EarthOfficeModel next block at 136 -/
theorem t222_5 {x1 : Int} {M : Mem} {Q : AR → Mem → Prop} : Tq 222 5 [vR 22 0, vI x1] [] M Q ↔ ((0 ≤ M 22 0 65) ∧ ((0 : Int) ≤ M 22 0 68 ∧ M 22 0 68 < 400) ∧ Tq 224 0 [vI (M 22099 (M 22 0 65) (M 22 0 68))] [] M (kI fun v1 M1 => if v1 = 0 then Tq 222 10 [vJ, vJ] [] M1 Q else Tq 222 6 [vR 22 0, vI x1] [] M1 Q)) :=
  Tq_blk (is := bk_222_5) (dd := de_222) rfl rfl
/-- EarthOfficeModel next block at 151 -/
theorem t222_6 {x1 : Int} {M : Mem} {Q : AR → Mem → Prop} : Tq 222 6 [vR 22 0, vI x1] [] M Q ↔ (bd (mset M 22 0 68 (w32 (M 22 0 68 + 1))) fun M1 => Tq 222 4 [vR 22 0, vI x1] [] M1 Q) :=
  Tq_blk (is := bk_222_6) (dd := de_222) rfl rfl
/-- EarthOfficeModel next block at 164 -/
theorem t222_7 {x1 : Int} {M : Mem} {Q : AR → Mem → Prop} : Tq 222 7 [vR 22 0, vI x1] [] M Q ↔ (if M 22 0 66 ≤ M 22 0 68 then Tq 222 10 [vJ, vJ] [] M Q else if ¬ x1 = (60 : Int) then Tq 222 8 [vR 22 0, vI x1] [] M Q else (0 ≤ M 22 0 65) ∧ ((0 : Int) ≤ M 22 0 68 ∧ M 22 0 68 < 400) ∧ if M 22099 (M 22 0 65) (M 22 0 68) = (61 : Int) then Tq 222 9 [vR 22 0, vJ] [] M Q else (0 ≤ M 22 0 65) ∧ ((0 : Int) ≤ M 22 0 68 ∧ M 22 0 68 < 400) ∧ if M 22099 (M 22 0 65) (M 22 0 68) = (62 : Int) then Tq 222 9 [vR 22 0, vJ] [] M Q else Tq 222 8 [vR 22 0, vI x1] [] M Q) :=
  Tq_blk (is := bk_222_7) (dd := de_222) rfl rfl
/-- EarthOfficeModel next block at 209 -/
theorem t222_8 {x1 : Int} {M : Mem} {Q : AR → Mem → Prop} : Tq 222 8 [vR 22 0, vI x1] [] M Q ↔ (if ¬ x1 = (62 : Int) then Tq 222 10 [vJ, vJ] [] M Q else (0 ≤ M 22 0 65) ∧ ((0 : Int) ≤ M 22 0 68 ∧ M 22 0 68 < 400) ∧ if ¬ M 22099 (M 22 0 65) (M 22 0 68) = (61 : Int) then Tq 222 10 [vJ, vJ] [] M Q else Tq 222 9 [vR 22 0, vJ] [] M Q) :=
  Tq_blk (is := bk_222_8) (dd := de_222) rfl rfl
/-- EarthOfficeModel next block at 229 -/
theorem t222_9 {M : Mem} {Q : AR → Mem → Prop} : Tq 222 9 [vR 22 0, vJ] [] M Q ↔ (bd (mset M 22 0 68 (w32 (M 22 0 68 + 1))) fun M1 => Tq 222 10 [vJ, vJ] [] M1 Q) :=
  Tq_blk (is := bk_222_9) (dd := de_222) rfl rfl
/-- EarthOfficeModel next block at 239 -/
theorem t222_10 {M : Mem} {Q : AR → Mem → Prop} : Tq 222 10 [vJ, vJ] [] M Q ↔ (Q (.inl none) M) :=
  Tq_blk (is := bk_222_10) (dd := de_222) rfl rfl
/-- EarthOfficeModel isLetter block at 0 -/
theorem t223_0 {x0 : Int} {M : Mem} {Q : AR → Mem → Prop} : Tq 223 0 [vI x0] [] M Q ↔ (if x0 < (97 : Int) then Tq 223 1 [vJ] [] M Q else if (122 : Int) < x0 then Tq 223 1 [vJ] [] M Q else Tq 223 2 [vJ] [vI 1] M Q) :=
  Tq_blk (is := bk_223_0) (dd := de_223) rfl rfl
/-- EarthOfficeModel isLetter block at 16 -/
theorem t223_1 {M : Mem} {Q : AR → Mem → Prop} : Tq 223 1 [vJ] [] M Q ↔ (Tq 223 2 [vJ] [vI 0] M Q) :=
  Tq_blk (is := bk_223_1) (dd := de_223) rfl rfl
/-- EarthOfficeModel isLetter block at 17 -/
theorem t223_2 {s0 : Int} {M : Mem} {Q : AR → Mem → Prop} : Tq 223 2 [vJ] [vI s0] M Q ↔ (Q (.inl (some (vI (nb s0)))) M) :=
  Tq_blk (is := bk_223_2) (dd := de_223) rfl rfl
/-- EarthOfficeModel isDigit block at 0 -/
theorem t224_0 {x0 : Int} {M : Mem} {Q : AR → Mem → Prop} : Tq 224 0 [vI x0] [] M Q ↔ (if x0 < (48 : Int) then Tq 224 1 [vJ] [] M Q else if (57 : Int) < x0 then Tq 224 1 [vJ] [] M Q else Tq 224 2 [vJ] [vI 1] M Q) :=
  Tq_blk (is := bk_224_0) (dd := de_224) rfl rfl
/-- EarthOfficeModel isDigit block at 16 -/
theorem t224_1 {M : Mem} {Q : AR → Mem → Prop} : Tq 224 1 [vJ] [] M Q ↔ (Tq 224 2 [vJ] [vI 0] M Q) :=
  Tq_blk (is := bk_224_1) (dd := de_224) rfl rfl
/-- EarthOfficeModel isDigit block at 17 -/
theorem t224_2 {s0 : Int} {M : Mem} {Q : AR → Mem → Prop} : Tq 224 2 [vJ] [vI s0] M Q ↔ (Q (.inl (some (vI (nb s0)))) M) :=
  Tq_blk (is := bk_224_2) (dd := de_224) rfl rfl
/-- EarthOfficeModel must block at 0 -/
theorem t225_0 {x1 : Int} {M : Mem} {Q : AR → Mem → Prop} : Tq 225 0 [vR 22 0, vR 31 x1] [] M Q ↔ (Tq 226 0 [vR 22 0, vR 31 x1, vJ] [] M (kI fun v1 M1 => if ¬ v1 = 0 then Tq 225 1 [vR 22 0, vJ] [] M1 Q else Tq 227 0 [vR 22 0, vI (M1 22 0 67)] [] M1 (kV fun M2 => Tq 225 1 [vR 22 0, vJ] [] M2 Q))) :=
  Tq_blk (is := bk_225_0) (dd := de_225) rfl rfl
/-- EarthOfficeModel must block at 16 -/
theorem t225_1 {M : Mem} {Q : AR → Mem → Prop} : Tq 225 1 [vR 22 0, vJ] [] M Q ↔ (Tq 222 0 [vR 22 0, vJ] [] M (kV fun M1 => Q (.inl none) M1)) :=
  Tq_blk (is := bk_225_1) (dd := de_225) rfl rfl
/-- EarthOfficeModel isWord block at 0 -/
theorem t226_0 {x1 : Int} {M : Mem} {Q : AR → Mem → Prop} : Tq 226 0 [vR 22 0, vR 31 x1, vJ] [] M Q ↔ (Tq 16 0 [vR 31 x1] [] M (kI fun v1 M1 => if w32 (M 22 0 68 - (M 22 0 67)) = v1 then Tq 226 1 [vR 22 0, vR 31 x1, vJ] [] M1 Q else Q (.inl (some (vI (nb 0)))) M1)) :=
  Tq_blk (is := bk_226_0) (dd := de_226) rfl rfl
/-- EarthOfficeModel isWord block at 18 -/
theorem t226_1 {x1 : Int} {M : Mem} {Q : AR → Mem → Prop} : Tq 226 1 [vR 22 0, vR 31 x1, vJ] [] M Q ↔ (Tq 226 2 [vR 22 0, vR 31 x1, vI 0] [] M Q) :=
  Tq_blk (is := bk_226_1) (dd := de_226) rfl rfl
/-- EarthOfficeModel isWord block at 20 -/
theorem t226_2 {x1 x2 : Int} {M : Mem} {Q : AR → Mem → Prop} : Tq 226 2 [vR 22 0, vR 31 x1, vI x2] [] M Q ↔ (Tq 16 0 [vR 31 x1] [] M (kI fun v1 M1 => if v1 ≤ x2 then Tq 226 4 [vJ, vJ, vJ] [] M1 Q else (0 ≤ M1 22 0 65) ∧ ((0 : Int) ≤ w32 (M1 22 0 67 + x2) ∧ w32 (M1 22 0 67 + x2) < 400) ∧ Tq 18 0 [vR 31 x1, vI x2] [] M1 (kI fun v2 M2 => if M1 22099 (M1 22 0 65) (w32 (M1 22 0 67 + x2)) = v2 then Tq 226 3 [vR 22 0, vR 31 x1, vI x2] [] M2 Q else Q (.inl (some (vI (nb 0)))) M2))) :=
  Tq_blk (is := bk_226_2) (dd := de_226) rfl rfl
/-- EarthOfficeModel isWord block at 49 -/
theorem t226_3 {x1 x2 : Int} {M : Mem} {Q : AR → Mem → Prop} : Tq 226 3 [vR 22 0, vR 31 x1, vI x2] [] M Q ↔ (Tq 226 2 [vR 22 0, vR 31 x1, vI (w32 (x2 + 1))] [] M Q) :=
  Tq_blk (is := bk_226_3) (dd := de_226) rfl rfl
/-- EarthOfficeModel isWord block at 55 -/
theorem t226_4 {M : Mem} {Q : AR → Mem → Prop} : Tq 226 4 [vJ, vJ, vJ] [] M Q ↔ (Q (.inl (some (vI (nb 1)))) M) :=
  Tq_blk (is := bk_226_4) (dd := de_226) rfl rfl
/-- EarthOfficeModel fails block at 0 -/
theorem t227_0 {x1 : Int} {M : Mem} {Q : AR → Mem → Prop} : Tq 227 0 [vR 22 0, vI x1] [] M Q ↔ (if ¬ M 22 0 69 = (-99999999) then Tq 227 1 [vR 22 0, vJ] [vR 22 0] M Q else Tq 227 2 [vJ, vJ] [vI x1, vR 22 0] M Q) :=
  Tq_blk (is := bk_227_0) (dd := de_227) rfl rfl
/-- EarthOfficeModel fails block at 14 -/
theorem t227_1 {M : Mem} {Q : AR → Mem → Prop} : Tq 227 1 [vR 22 0, vJ] [vR 22 0] M Q ↔ (Tq 227 2 [vJ, vJ] [vI (M 22 0 69), vR 22 0] M Q) :=
  Tq_blk (is := bk_227_1) (dd := de_227) rfl rfl
/-- EarthOfficeModel fails block at 18 -/
theorem t227_2 {s0 : Int} {M : Mem} {Q : AR → Mem → Prop} : Tq 227 2 [vJ, vJ] [vI s0, vR 22 0] M Q ↔ (bd (mset M 22 0 69 s0) fun M1 => Q (.inl none) M1) :=
  Tq_blk (is := bk_227_2) (dd := de_227) rfl rfl
/-- EarthOfficeModel cond block at 0 -/
theorem t228_0 {x1 : Int} {M : Mem} {Q : AR → Mem → Prop} : Tq 228 0 [vR 22 0, vI x1, vJ] [] M Q ↔ (Tq 229 0 [vR 22 0, vI x1] [] M (kV fun M1 => ((0 : Int) ≤ (if x1 ≤ 14 then 11 + 10 * (14 - x1) else -1) ∧ (if x1 ≤ 14 then 11 + 10 * (14 - x1) else -1) < (if x1 ≤ 14 then 12 + 10 * (14 - x1) else -1)) ∧ Tq 230 0 [vR 22 0, vI x1, vJ] [] M1 (kI fun v1 M2 => Tq 228 1 [vR 22 0, vI x1, vI v1] [] M2 Q))) :=
  Tq_blk (is := bk_228_0) (dd := de_228) rfl rfl
/-- EarthOfficeModel cond block at 11 -/
theorem t228_1 {x1 x2 : Int} {M : Mem} {Q : AR → Mem → Prop} : Tq 228 1 [vR 22 0, vI x1, vI x2] [] M Q ↔ (if ¬ M 22 0 69 = (-99999999) then Tq 228 2 [vJ, vJ, vI x2] [] M Q else Tq 226 0 [vR 22 0, vR 31 47, vJ] [] M (kI fun v1 M1 => if v1 = 0 then Tq 228 2 [vJ, vJ, vI x2] [] M1 Q else Tq 232 0 [vR 22 0] [] M1 (kV fun M2 => Tq 222 0 [vR 22 0, vJ] [] M2 (kV fun M3 => ((0 : Int) ≤ (if x1 ≤ 14 then 11 + 10 * (14 - x1) else -1) ∧ (if x1 ≤ 14 then 11 + 10 * (14 - x1) else -1) < (if x1 ≤ 14 then 12 + 10 * (14 - x1) else -1)) ∧ Tq 230 0 [vR 22 0, vI x1, vJ] [] M3 (kI fun v2 M4 => Tq 228 1 [vR 22 0, vI x1, vI (or32 x2 v2)] [] M4 Q))))) :=
  Tq_blk (is := bk_228_1) (dd := de_228) rfl rfl
/-- EarthOfficeModel cond block at 49 -/
theorem t228_2 {x2 : Int} {M : Mem} {Q : AR → Mem → Prop} : Tq 228 2 [vJ, vJ, vI x2] [] M Q ↔ (Q (.inl (some (vI (nb x2)))) M) :=
  Tq_blk (is := bk_228_2) (dd := de_228) rfl rfl
/-- EarthOfficeModel deeper block at 0 -/
theorem t229_0 {x1 : Int} {M : Mem} {Q : AR → Mem → Prop} : Tq 229 0 [vR 22 0, vI x1] [] M Q ↔ (if x1 ≤ (12 : Int) then Tq 229 1 [vJ, vJ] [] M Q else Tq 227 0 [vR 22 0, vI (M 22 0 67)] [] M (kV fun M1 => Tq 229 1 [vJ, vJ] [] M1 Q)) :=
  Tq_blk (is := bk_229_0) (dd := de_229) rfl rfl
/-- EarthOfficeModel deeper block at 14 -/
theorem t229_1 {M : Mem} {Q : AR → Mem → Prop} : Tq 229 1 [vJ, vJ] [] M Q ↔ (Q (.inl none) M) :=
  Tq_blk (is := bk_229_1) (dd := de_229) rfl rfl
/-- EarthOfficeModel all block at 0 -/
theorem t230_0 {x1 : Int} {M : Mem} {Q : AR → Mem → Prop} : Tq 230 0 [vR 22 0, vI x1, vJ] [] M Q ↔ (((0 : Int) ≤ (if x1 ≤ 14 then 10 + 10 * (14 - x1) else -1) ∧ (if x1 ≤ 14 then 10 + 10 * (14 - x1) else -1) < (if x1 ≤ 14 then 11 + 10 * (14 - x1) else -1)) ∧ Tq 231 0 [vR 22 0, vI x1, vJ, vJ, vJ, vJ, vJ] [] M (kI fun v1 M1 => Tq 230 1 [vR 22 0, vI x1, vI v1] [] M1 Q)) :=
  Tq_blk (is := bk_230_0) (dd := de_230) rfl rfl
/-- EarthOfficeModel all block at 6 -/
theorem t230_1 {x1 x2 : Int} {M : Mem} {Q : AR → Mem → Prop} : Tq 230 1 [vR 22 0, vI x1, vI x2] [] M Q ↔ (if ¬ M 22 0 69 = (-99999999) then Tq 230 2 [vJ, vJ, vI x2] [] M Q else Tq 226 0 [vR 22 0, vR 31 48, vJ] [] M (kI fun v1 M1 => if v1 = 0 then Tq 230 2 [vJ, vJ, vI x2] [] M1 Q else Tq 232 0 [vR 22 0] [] M1 (kV fun M2 => Tq 222 0 [vR 22 0, vJ] [] M2 (kV fun M3 => ((0 : Int) ≤ (if x1 ≤ 14 then 10 + 10 * (14 - x1) else -1) ∧ (if x1 ≤ 14 then 10 + 10 * (14 - x1) else -1) < (if x1 ≤ 14 then 11 + 10 * (14 - x1) else -1)) ∧ Tq 231 0 [vR 22 0, vI x1, vJ, vJ, vJ, vJ, vJ] [] M3 (kI fun v2 M4 => Tq 230 1 [vR 22 0, vI x1, vI (and32 x2 v2)] [] M4 Q))))) :=
  Tq_blk (is := bk_230_1) (dd := de_230) rfl rfl
/-- EarthOfficeModel all block at 44 -/
theorem t230_2 {x2 : Int} {M : Mem} {Q : AR → Mem → Prop} : Tq 230 2 [vJ, vJ, vI x2] [] M Q ↔ (Q (.inl (some (vI (nb x2)))) M) :=
  Tq_blk (is := bk_230_2) (dd := de_230) rfl rfl
/-- EarthOfficeModel one block at 0 -/
theorem t231_0 {x1 : Int} {M : Mem} {Q : AR → Mem → Prop} : Tq 231 0 [vR 22 0, vI x1, vJ, vJ, vJ, vJ, vJ] [] M Q ↔ (Tq 229 0 [vR 22 0, vI x1] [] M (kV fun M1 => if M1 22 0 69 = (-99999999) then Tq 231 1 [vR 22 0, vI x1, vJ, vJ, vJ, vJ, vJ] [] M1 Q else Q (.inl (some (vI (nb 0)))) M1)) :=
  Tq_blk (is := bk_231_0) (dd := de_231) rfl rfl
/-- EarthOfficeModel one block at 16 -/
theorem t231_1 {x1 : Int} {M : Mem} {Q : AR → Mem → Prop} : Tq 231 1 [vR 22 0, vI x1, vJ, vJ, vJ, vJ, vJ] [] M Q ↔ (Tq 226 0 [vR 22 0, vR 31 49, vJ] [] M (kI fun v1 M1 => if v1 = 0 then Tq 231 4 [vR 22 0, vI x1, vJ, vJ, vJ, vJ, vJ] [] M1 Q else Tq 232 0 [vR 22 0] [] M1 (kV fun M2 => Tq 222 0 [vR 22 0, vJ] [] M2 (kV fun M3 => ((0 : Int) ≤ (if (w32 (x1 + 1)) ≤ 14 then 10 + 10 * (14 - (w32 (x1 + 1))) else -1) ∧ (if (w32 (x1 + 1)) ≤ 14 then 10 + 10 * (14 - (w32 (x1 + 1))) else -1) < (if x1 ≤ 14 then 10 + 10 * (14 - x1) else -1)) ∧ Tq 231 0 [vR 22 0, vI (w32 (x1 + 1)), vJ, vJ, vJ, vJ, vJ] [] M3 (kI fun v2 M4 => if ¬ v2 = 0 then Tq 231 2 [vJ, vJ, vJ, vJ, vJ, vJ, vJ] [] M4 Q else Tq 231 3 [vJ, vJ, vJ, vJ, vJ, vJ, vJ] [vI 1] M4 Q))))) :=
  Tq_blk (is := bk_231_1) (dd := de_231) rfl rfl
/-- EarthOfficeModel one block at 48 -/
theorem t231_2 {M : Mem} {Q : AR → Mem → Prop} : Tq 231 2 [vJ, vJ, vJ, vJ, vJ, vJ, vJ] [] M Q ↔ (Tq 231 3 [vJ, vJ, vJ, vJ, vJ, vJ, vJ] [vI 0] M Q) :=
  Tq_blk (is := bk_231_2) (dd := de_231) rfl rfl
/-- EarthOfficeModel one block at 49 -/
theorem t231_3 {s0 : Int} {M : Mem} {Q : AR → Mem → Prop} : Tq 231 3 [vJ, vJ, vJ, vJ, vJ, vJ, vJ] [vI s0] M Q ↔ (Q (.inl (some (vI (nb s0)))) M) :=
  Tq_blk (is := bk_231_3) (dd := de_231) rfl rfl
/-- EarthOfficeModel one block at 50 -/
theorem t231_4 {x1 : Int} {M : Mem} {Q : AR → Mem → Prop} : Tq 231 4 [vR 22 0, vI x1, vJ, vJ, vJ, vJ, vJ] [] M Q ↔ (Tq 226 0 [vR 22 0, vR 31 50, vJ] [] M (kI fun v1 M1 => if v1 = 0 then Tq 231 5 [vR 22 0, vI x1, vJ, vJ, vJ, vJ, vJ] [] M1 Q else ((0 : Int) ≤ (if x1 ≤ 14 then 9 + 10 * (14 - x1) else -1) ∧ (if x1 ≤ 14 then 9 + 10 * (14 - x1) else -1) < (if x1 ≤ 14 then 10 + 10 * (14 - x1) else -1)) ∧ Tq 233 0 [vR 22 0, vI x1, vJ, vJ, vJ, vJ] [] M1 (kI fun v2 M2 => Q (.inl (some (vI (nb v2)))) M2))) :=
  Tq_blk (is := bk_231_4) (dd := de_231) rfl rfl
/-- EarthOfficeModel one block at 66 -/
theorem t231_5 {x1 : Int} {M : Mem} {Q : AR → Mem → Prop} : Tq 231 5 [vR 22 0, vI x1, vJ, vJ, vJ, vJ, vJ] [] M Q ↔ (Tq 226 0 [vR 22 0, vR 31 51, vJ] [] M (kI fun v1 M1 => if v1 = 0 then Tq 231 6 [vR 22 0, vI x1, vJ, vJ, vJ, vJ, vJ] [] M1 Q else Tq 222 0 [vR 22 0, vJ] [] M1 (kV fun M2 => ((0 : Int) ≤ (if (w32 (x1 + 1)) ≤ 14 then 12 + 10 * (14 - (w32 (x1 + 1))) else -1) ∧ (if (w32 (x1 + 1)) ≤ 14 then 12 + 10 * (14 - (w32 (x1 + 1))) else -1) < (if x1 ≤ 14 then 10 + 10 * (14 - x1) else -1)) ∧ Tq 228 0 [vR 22 0, vI (w32 (x1 + 1)), vJ] [] M2 (kI fun v2 M3 => Tq 225 0 [vR 22 0, vR 31 52] [] M3 (kV fun M4 => Q (.inl (some (vI (nb v2)))) M4))))) :=
  Tq_blk (is := bk_231_5) (dd := de_231) rfl rfl
/-- EarthOfficeModel one block at 97 -/
theorem t231_6 {x1 : Int} {M : Mem} {Q : AR → Mem → Prop} : Tq 231 6 [vR 22 0, vI x1, vJ, vJ, vJ, vJ, vJ] [] M Q ↔ (((0 : Int) ≤ (if x1 ≤ 14 then 8 + 10 * (14 - x1) else -1) ∧ (if x1 ≤ 14 then 8 + 10 * (14 - x1) else -1) < (if x1 ≤ 14 then 10 + 10 * (14 - x1) else -1)) ∧ Tq 236 0 [vR 22 0, vI x1, vJ, vJ, vJ, vJ, vJ] [] M (kL fun v1 M1 => Tq 226 0 [vR 22 0, vR 31 53, vJ] [] M1 (kI fun v2 M2 => if v2 = 0 then Tq 231 7 [vR 22 0, vI x1, vL v1, vJ, vJ, vJ, vJ] [] M2 Q else Tq 231 13 [vR 22 0, vI x1, vL v1, vJ, vJ, vJ, vJ] [vI 1] M2 Q))) :=
  Tq_blk (is := bk_231_6) (dd := de_231) rfl rfl
/-- EarthOfficeModel one block at 117 -/
theorem t231_7 {x1 x2 : Int} {M : Mem} {Q : AR → Mem → Prop} : Tq 231 7 [vR 22 0, vI x1, vL x2, vJ, vJ, vJ, vJ] [] M Q ↔ (Tq 226 0 [vR 22 0, vR 31 54, vJ] [] M (kI fun v1 M1 => if v1 = 0 then Tq 231 8 [vR 22 0, vI x1, vL x2, vJ, vJ, vJ, vJ] [] M1 Q else Tq 231 13 [vR 22 0, vI x1, vL x2, vJ, vJ, vJ, vJ] [vI 3] M1 Q)) :=
  Tq_blk (is := bk_231_7) (dd := de_231) rfl rfl
/-- EarthOfficeModel one block at 131 -/
theorem t231_8 {x1 x2 : Int} {M : Mem} {Q : AR → Mem → Prop} : Tq 231 8 [vR 22 0, vI x1, vL x2, vJ, vJ, vJ, vJ] [] M Q ↔ (Tq 226 0 [vR 22 0, vR 31 55, vJ] [] M (kI fun v1 M1 => if v1 = 0 then Tq 231 9 [vR 22 0, vI x1, vL x2, vJ, vJ, vJ, vJ] [] M1 Q else Tq 231 13 [vR 22 0, vI x1, vL x2, vJ, vJ, vJ, vJ] [vI 2] M1 Q)) :=
  Tq_blk (is := bk_231_8) (dd := de_231) rfl rfl
/-- EarthOfficeModel one block at 145 -/
theorem t231_9 {x1 x2 : Int} {M : Mem} {Q : AR → Mem → Prop} : Tq 231 9 [vR 22 0, vI x1, vL x2, vJ, vJ, vJ, vJ] [] M Q ↔ (Tq 226 0 [vR 22 0, vR 31 56, vJ] [] M (kI fun v1 M1 => if v1 = 0 then Tq 231 10 [vR 22 0, vI x1, vL x2, vJ, vJ, vJ, vJ] [] M1 Q else Tq 231 13 [vR 22 0, vI x1, vL x2, vJ, vJ, vJ, vJ] [vI 6] M1 Q)) :=
  Tq_blk (is := bk_231_9) (dd := de_231) rfl rfl
/-- EarthOfficeModel one block at 160 -/
theorem t231_10 {x1 x2 : Int} {M : Mem} {Q : AR → Mem → Prop} : Tq 231 10 [vR 22 0, vI x1, vL x2, vJ, vJ, vJ, vJ] [] M Q ↔ (Tq 226 0 [vR 22 0, vR 31 57, vJ] [] M (kI fun v1 M1 => if v1 = 0 then Tq 231 11 [vR 22 0, vI x1, vL x2, vJ, vJ, vJ, vJ] [] M1 Q else Tq 231 13 [vR 22 0, vI x1, vL x2, vJ, vJ, vJ, vJ] [vI 4] M1 Q)) :=
  Tq_blk (is := bk_231_10) (dd := de_231) rfl rfl
/-- EarthOfficeModel one block at 174 -/
theorem t231_11 {x1 x2 : Int} {M : Mem} {Q : AR → Mem → Prop} : Tq 231 11 [vR 22 0, vI x1, vL x2, vJ, vJ, vJ, vJ] [] M Q ↔ (Tq 226 0 [vR 22 0, vR 31 58, vJ] [] M (kI fun v1 M1 => if v1 = 0 then Tq 231 12 [vR 22 0, vI x1, vL x2, vJ, vJ, vJ, vJ] [] M1 Q else Tq 231 13 [vR 22 0, vI x1, vL x2, vJ, vJ, vJ, vJ] [vI 5] M1 Q)) :=
  Tq_blk (is := bk_231_11) (dd := de_231) rfl rfl
/-- EarthOfficeModel one block at 188 -/
theorem t231_12 {x1 x2 : Int} {M : Mem} {Q : AR → Mem → Prop} : Tq 231 12 [vR 22 0, vI x1, vL x2, vJ, vJ, vJ, vJ] [] M Q ↔ (Tq 231 13 [vR 22 0, vI x1, vL x2, vJ, vJ, vJ, vJ] [vI 0] M Q) :=
  Tq_blk (is := bk_231_12) (dd := de_231) rfl rfl
/-- EarthOfficeModel one block at 189 -/
theorem t231_13 {x1 x2 s0 : Int} {M : Mem} {Q : AR → Mem → Prop} : Tq 231 13 [vR 22 0, vI x1, vL x2, vJ, vJ, vJ, vJ] [vI s0] M Q ↔ (if ¬ s0 = 0 then Tq 231 14 [vR 22 0, vI x1, vL x2, vJ, vI s0, vJ, vJ] [] M Q else Tq 227 0 [vR 22 0, vI (M 22 0 67)] [] M (kV fun M1 => Tq 231 14 [vR 22 0, vI x1, vL x2, vJ, vI s0, vJ, vJ] [] M1 Q)) :=
  Tq_blk (is := bk_231_13) (dd := de_231) rfl rfl
/-- EarthOfficeModel one block at 204 -/
theorem t231_14 {x1 x2 x4 : Int} {M : Mem} {Q : AR → Mem → Prop} : Tq 231 14 [vR 22 0, vI x1, vL x2, vJ, vI x4, vJ, vJ] [] M Q ↔ (Tq 232 0 [vR 22 0] [] M (kV fun M1 => Tq 222 0 [vR 22 0, vJ] [] M1 (kV fun M2 => if ¬ M2 22 0 69 = (-99999999) then Tq 231 15 [vJ, vJ, vL x2, vJ, vI x4, vJ, vJ] [] M2 Q else ((0 : Int) ≤ (if x1 ≤ 14 then 8 + 10 * (14 - x1) else -1) ∧ (if x1 ≤ 14 then 8 + 10 * (14 - x1) else -1) < (if x1 ≤ 14 then 10 + 10 * (14 - x1) else -1)) ∧ Tq 236 0 [vR 22 0, vI x1, vJ, vJ, vJ, vJ, vJ] [] M2 (kL fun v1 M3 => Tq 231 16 [vJ, vJ, vL x2, vJ, vI x4, vJ, vJ] [vL v1] M3 Q)))) :=
  Tq_blk (is := bk_231_14) (dd := de_231) rfl rfl
/-- EarthOfficeModel one block at 229 -/
theorem t231_15 {x2 x4 : Int} {M : Mem} {Q : AR → Mem → Prop} : Tq 231 15 [vJ, vJ, vL x2, vJ, vI x4, vJ, vJ] [] M Q ↔ (Tq 231 16 [vJ, vJ, vL x2, vJ, vI x4, vJ, vJ] [vL 0] M Q) :=
  Tq_blk (is := bk_231_15) (dd := de_231) rfl rfl
/-- EarthOfficeModel one block at 230 -/
theorem t231_16 {x2 x4 s0 : Int} {M : Mem} {Q : AR → Mem → Prop} : Tq 231 16 [vJ, vJ, vL x2, vJ, vI x4, vJ, vJ] [vL s0] M Q ↔ (if 0 ≤ cmp64 x2 s0 then Tq 231 17 [vJ, vJ, vL x2, vJ, vJ, vL s0, vJ] [vI x4] M Q else Tq 231 19 [vJ, vJ, vJ, vJ, vJ, vJ, vJ] [vI 1, vI x4] M Q) :=
  Tq_blk (is := bk_231_16) (dd := de_231) rfl rfl
/-- EarthOfficeModel one block at 245 -/
theorem t231_17 {x2 x5 s0 : Int} {M : Mem} {Q : AR → Mem → Prop} : Tq 231 17 [vJ, vJ, vL x2, vJ, vJ, vL x5, vJ] [vI s0] M Q ↔ (if ¬ cmp64 x2 x5 = 0 then Tq 231 18 [vJ, vJ, vJ, vJ, vJ, vJ, vJ] [vI s0] M Q else Tq 231 19 [vJ, vJ, vJ, vJ, vJ, vJ, vJ] [vI 2, vI s0] M Q) :=
  Tq_blk (is := bk_231_17) (dd := de_231) rfl rfl
/-- EarthOfficeModel one block at 256 -/
theorem t231_18 {s0 : Int} {M : Mem} {Q : AR → Mem → Prop} : Tq 231 18 [vJ, vJ, vJ, vJ, vJ, vJ, vJ] [vI s0] M Q ↔ (Tq 231 19 [vJ, vJ, vJ, vJ, vJ, vJ, vJ] [vI 4, vI s0] M Q) :=
  Tq_blk (is := bk_231_18) (dd := de_231) rfl rfl
/-- EarthOfficeModel one block at 257 -/
theorem t231_19 {s0 s1 : Int} {M : Mem} {Q : AR → Mem → Prop} : Tq 231 19 [vJ, vJ, vJ, vJ, vJ, vJ, vJ] [vI s0, vI s1] M Q ↔ (if and32 s1 s0 = 0 then Tq 231 20 [vJ, vJ, vJ, vJ, vJ, vJ, vJ] [] M Q else Tq 231 21 [vJ, vJ, vJ, vJ, vJ, vJ, vJ] [vI 1] M Q) :=
  Tq_blk (is := bk_231_19) (dd := de_231) rfl rfl
/-- EarthOfficeModel one block at 265 -/
theorem t231_20 {M : Mem} {Q : AR → Mem → Prop} : Tq 231 20 [vJ, vJ, vJ, vJ, vJ, vJ, vJ] [] M Q ↔ (Tq 231 21 [vJ, vJ, vJ, vJ, vJ, vJ, vJ] [vI 0] M Q) :=
  Tq_blk (is := bk_231_20) (dd := de_231) rfl rfl
/-- EarthOfficeModel one block at 266 -/
theorem t231_21 {s0 : Int} {M : Mem} {Q : AR → Mem → Prop} : Tq 231 21 [vJ, vJ, vJ, vJ, vJ, vJ, vJ] [vI s0] M Q ↔ (Q (.inl (some (vI (nb s0)))) M) :=
  Tq_blk (is := bk_231_21) (dd := de_231) rfl rfl
/-- EarthOfficeModel thing block at 0 -/
theorem t232_0 {M : Mem} {Q : AR → Mem → Prop} : Tq 232 0 [vR 22 0] [] M Q ↔ (bd (mset M 22 0 70 (w32 (M 22 0 70 + 1))) fun M1 => if M1 22 0 70 ≤ (60 : Int) then Tq 232 1 [vJ] [] M1 Q else Tq 227 0 [vR 22 0, vI (M1 22 0 67)] [] M1 (kV fun M2 => Tq 232 1 [vJ] [] M2 Q)) :=
  Tq_blk (is := bk_232_0) (dd := de_232) rfl rfl
/-- EarthOfficeModel thing block at 27 -/
theorem t232_1 {M : Mem} {Q : AR → Mem → Prop} : Tq 232 1 [vJ] [] M Q ↔ (Q (.inl none) M) :=
  Tq_blk (is := bk_232_1) (dd := de_232) rfl rfl
/-- EarthOfficeModel held block at 0 -/
theorem t233_0 {x1 : Int} {M : Mem} {Q : AR → Mem → Prop} : Tq 233 0 [vR 22 0, vI x1, vJ, vJ, vJ, vJ] [] M Q ↔ (Tq 232 0 [vR 22 0] [] M (kV fun M1 => Tq 222 0 [vR 22 0, vJ] [] M1 (kV fun M2 => Tq 234 0 [vR 22 0, vJ, vJ] [] M2 (kI fun v1 M3 => if v1 < (1 : Int) then Tq 233 1 [vR 22 0, vI x1, vI (M2 22 0 67), vI v1, vJ, vJ] [] M3 Q else if v1 ≤ (999 : Int) then Tq 233 2 [vR 22 0, vI x1, vJ, vI v1, vJ, vJ] [] M3 Q else Tq 233 1 [vR 22 0, vI x1, vI (M2 22 0 67), vI v1, vJ, vJ] [] M3 Q)))) :=
  Tq_blk (is := bk_233_0) (dd := de_233) rfl rfl
/-- EarthOfficeModel held block at 30 -/
theorem t233_1 {x1 x2 x3 : Int} {M : Mem} {Q : AR → Mem → Prop} : Tq 233 1 [vR 22 0, vI x1, vI x2, vI x3, vJ, vJ] [] M Q ↔ (Tq 227 0 [vR 22 0, vI x2] [] M (kV fun M1 => Tq 233 2 [vR 22 0, vI x1, vJ, vI x3, vJ, vJ] [] M1 Q)) :=
  Tq_blk (is := bk_233_1) (dd := de_233) rfl rfl
/-- EarthOfficeModel held block at 35 -/
theorem t233_2 {x1 x3 : Int} {M : Mem} {Q : AR → Mem → Prop} : Tq 233 2 [vR 22 0, vI x1, vJ, vI x3, vJ, vJ] [] M Q ↔ (bd (mset M 22 0 71 (w32 (M 22 0 71 + 1))) fun M1 => ((0 : Int) ≤ (if (w32 (x1 + 1)) ≤ 14 then 10 + 10 * (14 - (w32 (x1 + 1))) else -1) ∧ (if (w32 (x1 + 1)) ≤ 14 then 10 + 10 * (14 - (w32 (x1 + 1))) else -1) < (if x1 ≤ 14 then 9 + 10 * (14 - x1) else -1)) ∧ Tq 231 0 [vR 22 0, vI (w32 (x1 + 1)), vJ, vJ, vJ, vJ, vJ] [] M1 (kI fun v1 M2 => if M2 22 0 72 = 0 then Tq 233 7 [vJ, vJ, vJ, vJ, vJ, vJ] [] M2 Q else if v1 = 0 then Tq 233 3 [vR 22 0, vJ, vJ, vI x3, vI (w32 (w32 (64 * (M 22 0 73)) + M 22 0 71)), vJ] [vI (w32 (w32 (64 * (M 22 0 73)) + M 22 0 71)), vR 22064 0] M2 Q else ((0 : Int) ≤ w32 (w32 (64 * (M 22 0 73)) + M 22 0 71) ∧ w32 (w32 (64 * (M 22 0 73)) + M 22 0 71) < 512) ∧ Tq 233 4 [vR 22 0, vJ, vJ, vI x3, vI (w32 (w32 (64 * (M 22 0 73)) + M 22 0 71)), vJ] [vI (w32 (M2 22064 0 (w32 (w32 (64 * (M 22 0 73)) + M 22 0 71)) + 1)), vI (w32 (w32 (64 * (M 22 0 73)) + M 22 0 71)), vR 22064 0] M2 Q)) :=
  Tq_blk (is := bk_233_2) (dd := de_233) rfl rfl
/-- EarthOfficeModel held block at 98 -/
theorem t233_3 {x3 x4 s0 : Int} {M : Mem} {Q : AR → Mem → Prop} : Tq 233 3 [vR 22 0, vJ, vJ, vI x3, vI x4, vJ] [vI s0, vR 22064 0] M Q ↔ (Tq 233 4 [vR 22 0, vJ, vJ, vI x3, vI x4, vJ] [vI 0, vI s0, vR 22064 0] M Q) :=
  Tq_blk (is := bk_233_3) (dd := de_233) rfl rfl
/-- EarthOfficeModel held block at 99 -/
theorem t233_4 {x3 x4 s0 s1 : Int} {M : Mem} {Q : AR → Mem → Prop} : Tq 233 4 [vR 22 0, vJ, vJ, vI x3, vI x4, vJ] [vI s0, vI s1, vR 22064 0] M Q ↔ (((0 : Int) ≤ s1 ∧ s1 < 512) ∧ bd (mset M 22064 0 s1 s0) fun M1 => ((0 : Int) ≤ x4 ∧ x4 < 512) ∧ if M1 22064 0 x4 < x3 then Tq 233 5 [vJ, vJ, vJ, vJ, vJ, vJ] [] M1 Q else Tq 233 6 [vJ, vJ, vJ, vJ, vJ, vJ] [vI 1] M1 Q) :=
  Tq_blk (is := bk_233_4) (dd := de_233) rfl rfl
/-- EarthOfficeModel held block at 115 -/
theorem t233_5 {M : Mem} {Q : AR → Mem → Prop} : Tq 233 5 [vJ, vJ, vJ, vJ, vJ, vJ] [] M Q ↔ (Tq 233 6 [vJ, vJ, vJ, vJ, vJ, vJ] [vI 0] M Q) :=
  Tq_blk (is := bk_233_5) (dd := de_233) rfl rfl
/-- EarthOfficeModel held block at 116 -/
theorem t233_6 {s0 : Int} {M : Mem} {Q : AR → Mem → Prop} : Tq 233 6 [vJ, vJ, vJ, vJ, vJ, vJ] [vI s0] M Q ↔ (Q (.inl (some (vI (nb s0)))) M) :=
  Tq_blk (is := bk_233_6) (dd := de_233) rfl rfl
/-- EarthOfficeModel held block at 117 -/
theorem t233_7 {M : Mem} {Q : AR → Mem → Prop} : Tq 233 7 [vJ, vJ, vJ, vJ, vJ, vJ] [] M Q ↔ (Q (.inl (some (vI (nb 0)))) M) :=
  Tq_blk (is := bk_233_7) (dd := de_233) rfl rfl
/-- EarthOfficeModel number block at 0 -/
theorem t234_0 {M : Mem} {Q : AR → Mem → Prop} : Tq 234 0 [vR 22 0, vJ, vJ] [] M Q ↔ (Tq 235 0 [vR 22 0] [] M (kI fun v1 M1 => if ¬ v1 = 0 then Tq 234 1 [vR 22 0, vI 0, vJ] [] M1 Q else Tq 227 0 [vR 22 0, vI (M1 22 0 67)] [] M1 (kV fun M2 => Q (.inl (some (vI 0))) M2))) :=
  Tq_blk (is := bk_234_0) (dd := de_234) rfl rfl
/-- EarthOfficeModel number block at 19 -/
theorem t234_1 {x1 : Int} {M : Mem} {Q : AR → Mem → Prop} : Tq 234 1 [vR 22 0, vI x1, vJ] [] M Q ↔ (Tq 234 2 [vR 22 0, vI x1, vI (M 22 0 67)] [] M Q) :=
  Tq_blk (is := bk_234_1) (dd := de_234) rfl rfl
/-- EarthOfficeModel number block at 24 -/
theorem t234_2 {x1 x2 : Int} {M : Mem} {Q : AR → Mem → Prop} : Tq 234 2 [vR 22 0, vI x1, vI x2] [] M Q ↔ (if M 22 0 68 ≤ x2 then Tq 234 3 [vR 22 0, vI x1, vJ] [] M Q else (0 ≤ M 22 0 65) ∧ ((0 : Int) ≤ x2 ∧ x2 < 400) ∧ Tq 234 2 [vR 22 0, vI (w32 (w32 (w32 (10 * x1) + M 22099 (M 22 0 65) x2) - 48)), vI (w32 (x2 + 1))] [] M Q) :=
  Tq_blk (is := bk_234_2) (dd := de_234) rfl rfl
/-- EarthOfficeModel number block at 53 -/
theorem t234_3 {x1 : Int} {M : Mem} {Q : AR → Mem → Prop} : Tq 234 3 [vR 22 0, vI x1, vJ] [] M Q ↔ (Tq 222 0 [vR 22 0, vJ] [] M (kV fun M1 => Q (.inl (some (vI x1))) M1)) :=
  Tq_blk (is := bk_234_3) (dd := de_234) rfl rfl
/-- EarthOfficeModel isNumber block at 0 -/
theorem t235_0 {M : Mem} {Q : AR → Mem → Prop} : Tq 235 0 [vR 22 0] [] M Q ↔ (if M 22 0 68 ≤ M 22 0 67 then Tq 235 1 [vJ] [] M Q else (0 ≤ M 22 0 65) ∧ ((0 : Int) ≤ M 22 0 67 ∧ M 22 0 67 < 400) ∧ Tq 224 0 [vI (M 22099 (M 22 0 65) (M 22 0 67))] [] M (kI fun v1 M1 => if v1 = 0 then Tq 235 1 [vJ] [] M1 Q else if (6 : Int) < w32 (M1 22 0 68 - (M1 22 0 67)) then Tq 235 1 [vJ] [] M1 Q else Tq 235 2 [vJ] [vI 1] M1 Q)) :=
  Tq_blk (is := bk_235_0) (dd := de_235) rfl rfl
/-- EarthOfficeModel isNumber block at 44 -/
theorem t235_1 {M : Mem} {Q : AR → Mem → Prop} : Tq 235 1 [vJ] [] M Q ↔ (Tq 235 2 [vJ] [vI 0] M Q) :=
  Tq_blk (is := bk_235_1) (dd := de_235) rfl rfl
/-- EarthOfficeModel isNumber block at 45 -/
theorem t235_2 {s0 : Int} {M : Mem} {Q : AR → Mem → Prop} : Tq 235 2 [vJ] [vI s0] M Q ↔ (Q (.inl (some (vI (nb s0)))) M) :=
  Tq_blk (is := bk_235_2) (dd := de_235) rfl rfl
/-- EarthOfficeModel sum block at 0 -/
theorem t236_0 {x1 : Int} {M : Mem} {Q : AR → Mem → Prop} : Tq 236 0 [vR 22 0, vI x1, vJ, vJ, vJ, vJ, vJ] [] M Q ↔ (((0 : Int) ≤ (if x1 ≤ 14 then 7 + 10 * (14 - x1) else -1) ∧ (if x1 ≤ 14 then 7 + 10 * (14 - x1) else -1) < (if x1 ≤ 14 then 8 + 10 * (14 - x1) else -1)) ∧ Tq 237 0 [vR 22 0, vI x1, vJ, vJ, vJ, vJ, vJ] [] M (kL fun v1 M1 => Tq 236 1 [vR 22 0, vI x1, vL v1, vJ, vJ, vJ, vJ] [] M1 Q)) :=
  Tq_blk (is := bk_236_0) (dd := de_236) rfl rfl
/-- EarthOfficeModel sum block at 6 -/
theorem t236_1 {x1 x2 : Int} {M : Mem} {Q : AR → Mem → Prop} : Tq 236 1 [vR 22 0, vI x1, vL x2, vJ, vJ, vJ, vJ] [] M Q ↔ (if ¬ M 22 0 69 = (-99999999) then Tq 236 5 [vJ, vJ, vL x2, vJ, vJ, vJ, vJ] [] M Q else Tq 226 0 [vR 22 0, vR 31 59, vJ] [] M (kI fun v1 M1 => if ¬ v1 = 0 then Tq 236 2 [vR 22 0, vI x1, vL x2, vJ, vJ, vJ, vJ] [] M1 Q else Tq 226 0 [vR 22 0, vR 31 60, vJ] [] M1 (kI fun v2 M2 => if v2 = 0 then Tq 236 5 [vJ, vJ, vL x2, vJ, vJ, vJ, vJ] [] M2 Q else Tq 236 2 [vR 22 0, vI x1, vL x2, vJ, vJ, vJ, vJ] [] M2 Q))) :=
  Tq_blk (is := bk_236_1) (dd := de_236) rfl rfl
/-- EarthOfficeModel sum block at 35 -/
theorem t236_2 {x1 x2 : Int} {M : Mem} {Q : AR → Mem → Prop} : Tq 236 2 [vR 22 0, vI x1, vL x2, vJ, vJ, vJ, vJ] [] M Q ↔ (Tq 226 0 [vR 22 0, vR 31 59, vJ] [] M (kI fun v1 M1 => Tq 232 0 [vR 22 0] [] M1 (kV fun M2 => Tq 222 0 [vR 22 0, vJ] [] M2 (kV fun M3 => ((0 : Int) ≤ (if x1 ≤ 14 then 7 + 10 * (14 - x1) else -1) ∧ (if x1 ≤ 14 then 7 + 10 * (14 - x1) else -1) < (if x1 ≤ 14 then 8 + 10 * (14 - x1) else -1)) ∧ Tq 237 0 [vR 22 0, vI x1, vJ, vJ, vJ, vJ, vJ] [] M3 (kL fun v2 M4 => if v1 = 0 then Tq 236 3 [vR 22 0, vI x1, vL x2, vJ, vJ, vL v2, vJ] [] M4 Q else Tq 236 4 [vR 22 0, vI x1, vJ, vJ, vJ, vJ, vJ] [vL (w64 (x2 + v2))] M4 Q))))) :=
  Tq_blk (is := bk_236_2) (dd := de_236) rfl rfl
/-- EarthOfficeModel sum block at 71 -/
theorem t236_3 {x1 x2 x5 : Int} {M : Mem} {Q : AR → Mem → Prop} : Tq 236 3 [vR 22 0, vI x1, vL x2, vJ, vJ, vL x5, vJ] [] M Q ↔ (Tq 236 4 [vR 22 0, vI x1, vJ, vJ, vJ, vJ, vJ] [vL (w64 (x2 - x5))] M Q) :=
  Tq_blk (is := bk_236_3) (dd := de_236) rfl rfl
/-- EarthOfficeModel sum block at 75 -/
theorem t236_4 {x1 s0 : Int} {M : Mem} {Q : AR → Mem → Prop} : Tq 236 4 [vR 22 0, vI x1, vJ, vJ, vJ, vJ, vJ] [vL s0] M Q ↔ (Tq 251 0 [vL s0, vJ] [] M (kL fun v1 M1 => Tq 236 1 [vR 22 0, vI x1, vL v1, vJ, vJ, vJ, vJ] [] M1 Q)) :=
  Tq_blk (is := bk_236_4) (dd := de_236) rfl rfl
/-- EarthOfficeModel sum block at 82 -/
theorem t236_5 {x2 : Int} {M : Mem} {Q : AR → Mem → Prop} : Tq 236 5 [vJ, vJ, vL x2, vJ, vJ, vJ, vJ] [] M Q ↔ (Q (.inl (some (vL x2))) M) :=
  Tq_blk (is := bk_236_5) (dd := de_236) rfl rfl
/-- EarthOfficeModel term block at 0 -/
theorem t237_0 {x1 : Int} {M : Mem} {Q : AR → Mem → Prop} : Tq 237 0 [vR 22 0, vI x1, vJ, vJ, vJ, vJ, vJ] [] M Q ↔ (((0 : Int) ≤ (if x1 ≤ 14 then 6 + 10 * (14 - x1) else -1) ∧ (if x1 ≤ 14 then 6 + 10 * (14 - x1) else -1) < (if x1 ≤ 14 then 7 + 10 * (14 - x1) else -1)) ∧ Tq 238 0 [vR 22 0, vI x1, vJ, vJ] [] M (kL fun v1 M1 => Tq 237 1 [vR 22 0, vI x1, vL v1, vJ, vJ, vJ, vJ] [] M1 Q)) :=
  Tq_blk (is := bk_237_0) (dd := de_237) rfl rfl
/-- EarthOfficeModel term block at 6 -/
theorem t237_1 {x1 x2 : Int} {M : Mem} {Q : AR → Mem → Prop} : Tq 237 1 [vR 22 0, vI x1, vL x2, vJ, vJ, vJ, vJ] [] M Q ↔ (if ¬ M 22 0 69 = (-99999999) then Tq 237 6 [vJ, vJ, vL x2, vJ, vJ, vJ, vJ] [] M Q else Tq 226 0 [vR 22 0, vR 31 61, vJ] [] M (kI fun v1 M1 => if ¬ v1 = 0 then Tq 237 2 [vR 22 0, vI x1, vL x2, vJ, vJ, vJ, vJ] [] M1 Q else Tq 226 0 [vR 22 0, vR 31 62, vJ] [] M1 (kI fun v2 M2 => if v2 = 0 then Tq 237 6 [vJ, vJ, vL x2, vJ, vJ, vJ, vJ] [] M2 Q else Tq 237 2 [vR 22 0, vI x1, vL x2, vJ, vJ, vJ, vJ] [] M2 Q))) :=
  Tq_blk (is := bk_237_1) (dd := de_237) rfl rfl
/-- EarthOfficeModel term block at 35 -/
theorem t237_2 {x1 x2 : Int} {M : Mem} {Q : AR → Mem → Prop} : Tq 237 2 [vR 22 0, vI x1, vL x2, vJ, vJ, vJ, vJ] [] M Q ↔ (Tq 226 0 [vR 22 0, vR 31 61, vJ] [] M (kI fun v1 M1 => Tq 232 0 [vR 22 0] [] M1 (kV fun M2 => Tq 222 0 [vR 22 0, vJ] [] M2 (kV fun M3 => ((0 : Int) ≤ (if x1 ≤ 14 then 6 + 10 * (14 - x1) else -1) ∧ (if x1 ≤ 14 then 6 + 10 * (14 - x1) else -1) < (if x1 ≤ 14 then 7 + 10 * (14 - x1) else -1)) ∧ Tq 238 0 [vR 22 0, vI x1, vJ, vJ] [] M3 (kL fun v2 M4 => if v1 = 0 then Tq 237 3 [vR 22 0, vI x1, vL x2, vJ, vJ, vL v2, vJ] [] M4 Q else Tq 251 0 [vL (w64 (x2 * v2)), vJ] [] M4 (kL fun v3 M5 => Tq 237 5 [vR 22 0, vI x1, vJ, vJ, vJ, vJ, vJ] [vL v3] M5 Q)))))) :=
  Tq_blk (is := bk_237_2) (dd := de_237) rfl rfl
/-- EarthOfficeModel term block at 74 -/
theorem t237_3 {x1 x2 x5 : Int} {M : Mem} {Q : AR → Mem → Prop} : Tq 237 3 [vR 22 0, vI x1, vL x2, vJ, vJ, vL x5, vJ] [] M Q ↔ (if ¬ cmp64 x5 0 = 0 then Tq 237 4 [vR 22 0, vI x1, vL x2, vJ, vJ, vL x5, vJ] [] M Q else Tq 237 5 [vR 22 0, vI x1, vJ, vJ, vJ, vJ, vJ] [vL 0] M Q) :=
  Tq_blk (is := bk_237_3) (dd := de_237) rfl rfl
/-- EarthOfficeModel term block at 85 -/
theorem t237_4 {x1 x2 x5 : Int} {M : Mem} {Q : AR → Mem → Prop} : Tq 237 4 [vR 22 0, vI x1, vL x2, vJ, vJ, vL x5, vJ] [] M Q ↔ ((¬ x5 = 0) ∧ Tq 251 0 [vL (div64 x2 x5), vJ] [] M (kL fun v1 M1 => Tq 237 5 [vR 22 0, vI x1, vJ, vJ, vJ, vJ, vJ] [vL v1] M1 Q)) :=
  Tq_blk (is := bk_237_4) (dd := de_237) rfl rfl
/-- EarthOfficeModel term block at 92 -/
theorem t237_5 {x1 s0 : Int} {M : Mem} {Q : AR → Mem → Prop} : Tq 237 5 [vR 22 0, vI x1, vJ, vJ, vJ, vJ, vJ] [vL s0] M Q ↔ (Tq 237 1 [vR 22 0, vI x1, vL s0, vJ, vJ, vJ, vJ] [] M Q) :=
  Tq_blk (is := bk_237_5) (dd := de_237) rfl rfl
/-- EarthOfficeModel term block at 96 -/
theorem t237_6 {x2 : Int} {M : Mem} {Q : AR → Mem → Prop} : Tq 237 6 [vJ, vJ, vL x2, vJ, vJ, vJ, vJ] [] M Q ↔ (Q (.inl (some (vL x2))) M) :=
  Tq_blk (is := bk_237_6) (dd := de_237) rfl rfl
/-- EarthOfficeModel part block at 0 -/
theorem t238_0 {x1 : Int} {M : Mem} {Q : AR → Mem → Prop} : Tq 238 0 [vR 22 0, vI x1, vJ, vJ] [] M Q ↔ (if M 22 0 69 = (-99999999) then Tq 238 1 [vR 22 0, vI x1, vJ, vJ] [] M Q else Q (.inl (some (vL 0))) M) :=
  Tq_blk (is := bk_238_0) (dd := de_238) rfl rfl
/-- EarthOfficeModel part block at 11 -/
theorem t238_1 {x1 : Int} {M : Mem} {Q : AR → Mem → Prop} : Tq 238 1 [vR 22 0, vI x1, vJ, vJ] [] M Q ↔ (Tq 226 0 [vR 22 0, vR 31 63, vJ] [] M (kI fun v1 M1 => if v1 = 0 then Tq 238 2 [vR 22 0, vJ, vJ, vJ] [] M1 Q else Tq 222 0 [vR 22 0, vJ] [] M1 (kV fun M2 => Tq 229 0 [vR 22 0, vI (w32 (x1 + 1))] [] M2 (kV fun M3 => ((0 : Int) ≤ (if (w32 (x1 + 1)) ≤ 14 then 8 + 10 * (14 - (w32 (x1 + 1))) else -1) ∧ (if (w32 (x1 + 1)) ≤ 14 then 8 + 10 * (14 - (w32 (x1 + 1))) else -1) < (if x1 ≤ 14 then 6 + 10 * (14 - x1) else -1)) ∧ Tq 236 0 [vR 22 0, vI (w32 (x1 + 1)), vJ, vJ, vJ, vJ, vJ] [] M3 (kL fun v2 M4 => Tq 225 0 [vR 22 0, vR 31 64] [] M4 (kV fun M5 => Q (.inl (some (vL v2))) M5)))))) :=
  Tq_blk (is := bk_238_1) (dd := de_238) rfl rfl
/-- EarthOfficeModel part block at 49 -/
theorem t238_2 {M : Mem} {Q : AR → Mem → Prop} : Tq 238 2 [vR 22 0, vJ, vJ, vJ] [] M Q ↔ (Tq 235 0 [vR 22 0] [] M (kI fun v1 M1 => if v1 = 0 then Tq 238 3 [vR 22 0, vJ, vJ, vJ] [] M1 Q else Tq 232 0 [vR 22 0] [] M1 (kV fun M2 => Tq 234 0 [vR 22 0, vJ, vJ] [] M2 (kI fun v2 M3 => Q (.inl (some (vL v2))) M3)))) :=
  Tq_blk (is := bk_238_2) (dd := de_238) rfl rfl
/-- EarthOfficeModel part block at 66 -/
theorem t238_3 {M : Mem} {Q : AR → Mem → Prop} : Tq 238 3 [vR 22 0, vJ, vJ, vJ] [] M Q ↔ (Tq 239 0 [vR 22 0, vJ, vJ, vJ] [] M (kL fun v1 M1 => Q (.inl (some (vL v1))) M1)) :=
  Tq_blk (is := bk_238_3) (dd := de_238) rfl rfl
/-- EarthOfficeModel valueOf block at 0 -/
theorem t239_0 {M : Mem} {Q : AR → Mem → Prop} : Tq 239 0 [vR 22 0, vJ, vJ, vJ] [] M Q ↔ (Tq 239 1 [vR 22 0, vI (-99999999), vI 0, vJ] [] M Q) :=
  Tq_blk (is := bk_239_0) (dd := de_239) rfl rfl
/-- EarthOfficeModel valueOf block at 5 -/
theorem t239_1 {x1 x2 : Int} {M : Mem} {Q : AR → Mem → Prop} : Tq 239 1 [vR 22 0, vI x1, vI x2, vJ] [] M Q ↔ (if (14 : Int) ≤ x2 then Tq 239 4 [vR 22 0, vI x1, vJ, vJ] [] M Q else ((0 : Int) ≤ x2 ∧ x2 < 14) ∧ Tq 226 0 [vR 22 0, vR 31 x2, vJ] [] M (kI fun v1 M1 => if v1 = 0 then Tq 239 2 [vR 22 0, vI x1, vI x2, vJ] [] M1 Q else Tq 239 3 [vR 22 0, vJ, vI x2, vJ] [vI x2] M1 Q)) :=
  Tq_blk (is := bk_239_1) (dd := de_239) rfl rfl
/-- EarthOfficeModel valueOf block at 28 -/
theorem t239_2 {x1 x2 : Int} {M : Mem} {Q : AR → Mem → Prop} : Tq 239 2 [vR 22 0, vI x1, vI x2, vJ] [] M Q ↔ (Tq 239 3 [vR 22 0, vJ, vI x2, vJ] [vI x1] M Q) :=
  Tq_blk (is := bk_239_2) (dd := de_239) rfl rfl
/-- EarthOfficeModel valueOf block at 29 -/
theorem t239_3 {x2 s0 : Int} {M : Mem} {Q : AR → Mem → Prop} : Tq 239 3 [vR 22 0, vJ, vI x2, vJ] [vI s0] M Q ↔ (Tq 239 1 [vR 22 0, vI s0, vI (w32 (x2 + 1)), vJ] [] M Q) :=
  Tq_blk (is := bk_239_3) (dd := de_239) rfl rfl
/-- EarthOfficeModel valueOf block at 36 -/
theorem t239_4 {x1 : Int} {M : Mem} {Q : AR → Mem → Prop} : Tq 239 4 [vR 22 0, vI x1, vJ, vJ] [] M Q ↔ (if ¬ x1 = (-99999999) then Tq 239 5 [vR 22 0, vI x1, vJ, vJ] [] M Q else Tq 227 0 [vR 22 0, vI (M 22 0 67)] [] M (kV fun M1 => Q (.inl (some (vL 0))) M1)) :=
  Tq_blk (is := bk_239_4) (dd := de_239) rfl rfl
/-- EarthOfficeModel valueOf block at 52 -/
theorem t239_5 {x1 : Int} {M : Mem} {Q : AR → Mem → Prop} : Tq 239 5 [vR 22 0, vI x1, vJ, vJ] [] M Q ↔ (Tq 232 0 [vR 22 0] [] M (kV fun M1 => Tq 222 0 [vR 22 0, vJ] [] M1 (kV fun M2 => if x1 < (9 : Int) then Tq 239 6 [vR 22 0, vI x1, vJ, vJ] [] M2 Q else if ¬ M2 22 0 69 = (-99999999) then Tq 239 6 [vR 22 0, vI x1, vJ, vJ] [] M2 Q else Tq 234 0 [vR 22 0, vJ, vJ] [] M2 (kI fun v1 M3 => Tq 239 7 [vR 22 0, vI x1, vJ, vJ] [vI v1] M3 Q)))) :=
  Tq_blk (is := bk_239_5) (dd := de_239) rfl rfl
/-- EarthOfficeModel valueOf block at 82 -/
theorem t239_6 {x1 : Int} {M : Mem} {Q : AR → Mem → Prop} : Tq 239 6 [vR 22 0, vI x1, vJ, vJ] [] M Q ↔ (Tq 239 7 [vR 22 0, vI x1, vJ, vJ] [vI 0] M Q) :=
  Tq_blk (is := bk_239_6) (dd := de_239) rfl rfl
/-- EarthOfficeModel valueOf block at 83 -/
theorem t239_7 {x1 s0 : Int} {M : Mem} {Q : AR → Mem → Prop} : Tq 239 7 [vR 22 0, vI x1, vJ, vJ] [vI s0] M Q ↔ (if ¬ x1 = (12 : Int) then Tq 239 8 [vR 22 0, vI x1, vI s0, vJ] [] M Q else if ¬ M 22 0 69 = (-99999999) then Tq 239 8 [vR 22 0, vI x1, vI s0, vJ] [] M Q else Tq 234 0 [vR 22 0, vJ, vJ] [] M (kI fun v1 M1 => Tq 239 9 [vR 22 0, vI x1, vI s0, vJ] [vI v1] M1 Q)) :=
  Tq_blk (is := bk_239_7) (dd := de_239) rfl rfl
/-- EarthOfficeModel valueOf block at 106 -/
theorem t239_8 {x1 x2 : Int} {M : Mem} {Q : AR → Mem → Prop} : Tq 239 8 [vR 22 0, vI x1, vI x2, vJ] [] M Q ↔ (Tq 239 9 [vR 22 0, vI x1, vI x2, vJ] [vI 0] M Q) :=
  Tq_blk (is := bk_239_8) (dd := de_239) rfl rfl
/-- EarthOfficeModel valueOf block at 107 -/
theorem t239_9 {x1 x2 s0 : Int} {M : Mem} {Q : AR → Mem → Prop} : Tq 239 9 [vR 22 0, vI x1, vI x2, vJ] [vI s0] M Q ↔ (if M 22 0 72 = 0 then Tq 239 10 [vJ, vJ, vJ, vJ] [] M Q else if M 22 0 69 = (-99999999) then Tq 239 11 [vR 22 0, vI x1, vI x2, vI s0] [] M Q else Tq 239 10 [vJ, vJ, vJ, vJ] [] M Q) :=
  Tq_blk (is := bk_239_9) (dd := de_239) rfl rfl
/-- EarthOfficeModel valueOf block at 124 -/
theorem t239_10 {M : Mem} {Q : AR → Mem → Prop} : Tq 239 10 [vJ, vJ, vJ, vJ] [] M Q ↔ (Q (.inl (some (vL 0))) M) :=
  Tq_blk (is := bk_239_10) (dd := de_239) rfl rfl
/-- EarthOfficeModel valueOf block at 126 -/
theorem t239_11 {x1 x2 x3 : Int} {M : Mem} {Q : AR → Mem → Prop} : Tq 239 11 [vR 22 0, vI x1, vI x2, vI x3] [] M Q ↔ (if (8 : Int) ≤ x1 then Tq 239 12 [vR 22 0, vI x1, vI x2, vI x3] [] M Q else Tq 240 0 [vR 22 0, vI x1, vJ] [] M (kL fun v1 M1 => Tq 239 16 [vJ, vJ, vJ, vJ] [vL v1] M1 Q)) :=
  Tq_blk (is := bk_239_11) (dd := de_239) rfl rfl
/-- EarthOfficeModel valueOf block at 140 -/
theorem t239_12 {x1 x2 x3 : Int} {M : Mem} {Q : AR → Mem → Prop} : Tq 239 12 [vR 22 0, vI x1, vI x2, vI x3] [] M Q ↔ (if ¬ x1 = (8 : Int) then Tq 239 13 [vR 22 0, vI x1, vI x2, vI x3] [] M Q else Tq 239 16 [vJ, vJ, vJ, vJ] [vL (M 22 0 81)] M Q) :=
  Tq_blk (is := bk_239_12) (dd := de_239) rfl rfl
/-- EarthOfficeModel valueOf block at 154 -/
theorem t239_13 {x1 x2 x3 : Int} {M : Mem} {Q : AR → Mem → Prop} : Tq 239 13 [vR 22 0, vI x1, vI x2, vI x3] [] M Q ↔ (if (12 : Int) ≤ x1 then Tq 239 14 [vR 22 0, vI x1, vI x2, vI x3] [] M Q else Tq 242 0 [vR 22 0, vI x1, vI x2, vJ] [] M (kL fun v1 M1 => Tq 239 16 [vJ, vJ, vJ, vJ] [vL v1] M1 Q)) :=
  Tq_blk (is := bk_239_13) (dd := de_239) rfl rfl
/-- EarthOfficeModel valueOf block at 169 -/
theorem t239_14 {x1 x2 x3 : Int} {M : Mem} {Q : AR → Mem → Prop} : Tq 239 14 [vR 22 0, vI x1, vI x2, vI x3] [] M Q ↔ (if ¬ x1 = (12 : Int) then Tq 239 15 [vR 22 0, vJ, vI x2, vJ] [] M Q else Tq 246 0 [vR 22 0, vI x2, vI x3, vJ] [] M (kL fun v1 M1 => Tq 239 16 [vJ, vJ, vJ, vJ] [vL v1] M1 Q)) :=
  Tq_blk (is := bk_239_14) (dd := de_239) rfl rfl
/-- EarthOfficeModel valueOf block at 184 -/
theorem t239_15 {x2 : Int} {M : Mem} {Q : AR → Mem → Prop} : Tq 239 15 [vR 22 0, vJ, vI x2, vJ] [] M Q ↔ (Tq 250 0 [vR 22 0, vI x2, vJ, vJ] [] M (kL fun v1 M1 => Tq 239 16 [vJ, vJ, vJ, vJ] [vL v1] M1 Q)) :=
  Tq_blk (is := bk_239_15) (dd := de_239) rfl rfl
/-- EarthOfficeModel valueOf block at 189 -/
theorem t239_16 {s0 : Int} {M : Mem} {Q : AR → Mem → Prop} : Tq 239 16 [vJ, vJ, vJ, vJ] [vL s0] M Q ↔ (Q (.inl (some (vL s0))) M) :=
  Tq_blk (is := bk_239_16) (dd := de_239) rfl rfl
