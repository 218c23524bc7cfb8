/-! the law's own blocks are what the bytes say -/
set_option maxRecDepth 100000
theorem cl_64 : chB lkT 0 2319 bk_0_64 = true := by decide +kernel
theorem cl_65 : chB lkT 0 2327 bk_0_65 = true := by decide +kernel
theorem cl_66 : chB lkT 0 2340 bk_0_66 = true := by decide +kernel
theorem cl_67 : chB lkT 0 2341 bk_0_67 = true := by decide +kernel
theorem cl_68 : chB lkT 0 2357 bk_0_68 = true := by decide +kernel
theorem cl_69 : chB lkT 0 2358 bk_0_69 = true := by decide +kernel
theorem cl_70 : chB lkT 0 2366 bk_0_70 = true := by decide +kernel
theorem cl_71 : chB lkT 0 2389 bk_0_71 = true := by decide +kernel
theorem cl_72 : chB lkT 0 2412 bk_0_72 = true := by decide +kernel
theorem cl_73 : chB lkT 0 2445 bk_0_73 = true := by decide +kernel
theorem cl_74 : chB lkT 0 2478 bk_0_74 = true := by decide +kernel
theorem cl_75 : chB lkT 0 2501 bk_0_75 = true := by decide +kernel
theorem cl_76 : chB lkT 0 2524 bk_0_76 = true := by decide +kernel
theorem cl_77 : chB lkT 0 2547 bk_0_77 = true := by decide +kernel
theorem cl_78 : chB lkT 0 2570 bk_0_78 = true := by decide +kernel
theorem cl_79 : chB lkT 0 2576 bk_0_79 = true := by decide +kernel
