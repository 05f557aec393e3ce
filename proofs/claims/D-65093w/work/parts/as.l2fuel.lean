/-! LAYER 2: fuel, room for calls, on both sides -/
theorem tx_5 : xtx 5 = mtx 11 := by decide +kernel
theorem fuel_x1 {N : Nat} {σ : mS} (h : sF σ 396 ≠ 0) : xx6_takeFuel N σ = some (.ok (md_pi σ 396 (sF σ 396 - 1))) := by
  simp (disch := exact h) only [xx6_takeFuel, lt, gd_in, if_pos, if_neg, ↓reduceIte, gd_z0, gd_z1, gd_tt, sF_fold, sG_fold, sI_fold, sJ_fold]
theorem fuel_x0 {N : Nat} {σ : mS} (h : sF σ 396 = 0) : xx6_takeFuel N σ = some (.error (1116, σ)) := by
  simp (disch := exact h) only [xx6_takeFuel, lt, gd_in, if_pos, if_neg, ↓reduceIte, gd_z0, gd_z1, gd_tt, sF_fold, sG_fold, sI_fold, sJ_fold]
theorem fuel_m1 {N : Nat} {μ : mS} (h : sF μ 180 ≠ 0) : mm_takeFuel N μ = some (1, md_pi μ 180 (sF μ 180 - 1)) := by
  simp (disch := first | exact h | decide) only [mm_takeFuel, lt, gd_in, if_pos, if_neg, ↓reduceIte, gd_z0, gd_z1, gd_tt, sF_fold, sG_fold, sI_fold, sJ_fold]
theorem fuel_m0 {N : Nat} {μ : mS} (h : sF μ 180 = 0) : mm_takeFuel N μ = bd (mm_breakOff N μ 2) (fun z => some (0, z)) := by
  simp (disch := first | exact h | decide) only [mm_takeFuel, lt, gd_in, if_pos, if_neg, ↓reduceIte, gd_z0, gd_z1, gd_tt, sF_fold, sG_fold, sI_fold, sJ_fold]
theorem open_x1 {N : Nat} {σ : mS} (h : sF σ 358 < 200) : xx6_mayOpen N σ = some (.ok σ) := by
  simp (disch := exact h) only [xx6_mayOpen, lt, gd_in, if_pos, if_neg, ↓reduceIte, gd_z0, gd_z1, gd_tt, sF_fold, sG_fold, sI_fold, sJ_fold]
theorem open_x0 {N : Nat} {σ : mS} (h : ¬ sF σ 358 < 200) : xx6_mayOpen N σ = bx (xx6_fault N σ (3000 + 5)) (fun z1 => some (Except.error (z1.1, z1.2))) := by
  simp (disch := exact h) only [xx6_mayOpen, lt, gd_in, if_pos, if_neg, ↓reduceIte, gd_z0, gd_z1, gd_tt, sF_fold, sG_fold, sI_fold, sJ_fold]
theorem open_m1 {N : Nat} {μ : mS} (h : sF μ 155 ≠ 200) : mm_mayOpen N μ = some (1, μ) := by
  simp (disch := first | exact h | decide) only [mm_mayOpen, lt, gd_in, if_pos, if_neg, ↓reduceIte, gd_z0, gd_z1, gd_tt, sF_fold, sG_fold, sI_fold, sJ_fold]
theorem open_m0 {N : Nat} {μ : mS} (h : sF μ 155 = 200) : mm_mayOpen N μ = bd (mm_fault_2 N μ 11) (fun z => some (0, z)) := by
  simp (disch := first | exact h | decide) only [mm_mayOpen, lt, gd_in, if_pos, if_neg, ↓reduceIte, gd_z0, gd_z1, gd_tt, sF_fold, sG_fold, sI_fold, sJ_fold]
