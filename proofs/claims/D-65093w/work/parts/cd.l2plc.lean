/-! LAYER 2: functions of the house: places in a text -/
theorem place_x {N : Nat} {σ : mS} {v : Int64} {n : Nat} (hn : n ≤ 4000) : ∃ P : Int64, xx8_place N σ v (Int32.ofNat n) = some (P, σ) ∧ 0 ≤ P.toInt ∧ ((0 ≤ v.toInt ∧ P.toInt = v.toInt) ∨ (v.toInt < 0 ∧ ((P.toInt = n + v.toInt + 1 ∧ 0 ≤ n + v.toInt + 1) ∨ (P.toInt = 0 ∧ n + v.toInt + 1 < 0)))) := by
  have y0 : (0 : Int64).toInt = 0 := rfl
  have y1 : (1 : Int64).toInt = 1 := rfl
  have en : (Int32.toInt64 (Int32.ofNat n)).toInt = n := by rw [L_64, tI_lit (by omega)]
  have v0 := Int64.le_toInt v
  have v1 := Int64.toInt_lt v
  rw [xx8_place]
  by_cases c : v < 0
  · have c' : v.toInt < 0 := by rw [L_lt, y0] at c; exact c
    have a1 : (v + Int32.toInt64 (Int32.ofNat n)).toInt = v.toInt + n := by rw [L_add] <;> omega
    have a2 : (v + Int32.toInt64 (Int32.ofNat n) + 1).toInt = v.toInt + n + 1 := by rw [L_add, a1, y1] <;> omega
    rw [if_pos (lgc_lt.mpr c), xj8_max_2]
    by_cases d : v + Int32.toInt64 (Int32.ofNat n) + 1 < 0
    · rw [if_pos (lgc_lt.mpr d)]
      rw [L_lt, y0, a2] at d
      exact ⟨0, rfl, by rw [y0]; omega, .inr ⟨c', .inr ⟨y0, by omega⟩⟩⟩
    · rw [if_neg (fun q => d (lgc_lt.mp q))]
      rw [L_lt, y0, a2] at d
      exact ⟨_, rfl, by rw [a2]; omega, .inr ⟨c', .inl ⟨by rw [a2]; omega, by omega⟩⟩⟩
  · rw [if_neg (fun q => c (lgc_lt.mp q))]
    rw [L_lt, y0] at c
    exact ⟨v, rfl, by omega, .inl ⟨by omega, rfl⟩⟩
/-- where a part begins -/
theorem from_2 {N : Nat} {σ μ : mS} {v : Int64} {n : Nat} (hn : n ≤ 4000) : ∃ P F : Int64, xx8_place N σ v (Int32.ofNat n) = some (P, σ) ∧ 0 ≤ P.toInt ∧ xj8_max_2 N σ P 1 = some (F, σ) ∧ mm_fromStart N μ v (Int32.ofNat n) = some (F, μ) ∧ 1 ≤ F.toInt ∧ (F.toInt = P.toInt ∨ (P.toInt < 1 ∧ F.toInt = 1)) := by
  have y0 : (0 : Int64).toInt = 0 := rfl
  have y1 : (1 : Int64).toInt = 1 := rfl
  have en : (Int32.toInt64 (Int32.ofNat n)).toInt = n := by rw [L_64, tI_lit (by omega)]
  have v0 := Int64.le_toInt v
  have v1 := Int64.toInt_lt v
  obtain ⟨P, p1, p2, p3⟩ := place_x (N := N) (σ := σ) (v := v) hn
  have mx : xj8_max_2 N σ P 1 = some (if P < 1 then 1 else P, σ) := by
    rw [xj8_max_2]
    by_cases d : P < 1
    · rw [if_pos (lgc_lt.mpr d), if_pos d]; rfl
    · rw [if_neg (fun q => d (lgc_lt.mp q)), if_neg d]; rfl
  have m16 : ∀ y : Int64, mm_fromStart_16 N y μ = some (if y < 1 then 1 else y, μ) := fun y => by
    rw [mm_fromStart_16]
    by_cases d : y < 1
    · rw [if_neg (fun q => by have := lgc_ge.mp q; rw [L_le] at this; rw [L_lt] at d; omega), if_pos d]; rfl
    · rw [if_pos (lgc_ge.mpr (by rw [L_le]; rw [L_lt] at d; omega)), if_neg d]; rfl
  refine ⟨P, if P < 1 then 1 else P, p1, p2, mx, ?_, ?_, ?_⟩
  · rw [mm_fromStart, m16, m16]
    rcases p3 with ⟨q1, q2⟩ | ⟨q1, q2⟩
    · have : v = P := by rw [L_eq, q2]
      rw [if_pos (lgc_ge.mpr (by rw [L_le, y0]; exact q1)), this]
    · rw [if_neg (fun q => by have := lgc_ge.mp q; rw [L_le, y0] at this; omega)]
      have a1 : (Int32.toInt64 (Int32.ofNat n) + v).toInt = n + v.toInt := by rw [L_add] <;> omega
      have a2 : (Int32.toInt64 (Int32.ofNat n) + v + 1).toInt = n + v.toInt + 1 := by rw [L_add, a1, y1] <;> omega
      rcases q2 with ⟨q2, q3⟩ | ⟨q2, q3⟩
      · have : Int32.toInt64 (Int32.ofNat n) + v + 1 = P := by rw [L_eq, a2, q2]
        rw [this]
      · rw [if_pos (by rw [L_lt, a2, y1]; omega), if_pos (by rw [L_lt, q2, y1]; omega)]
  · by_cases d : P < 1
    · rw [if_pos d, y1]; omega
    · rw [if_neg d]; rw [L_lt, y1] at d; omega
  · by_cases d : P < 1
    · rw [if_pos d]; rw [L_lt, y1] at d; exact .inr ⟨d, y1⟩
    · rw [if_neg d]; exact .inl rfl
/-- where it ends -/
theorem upto_2 {N : Nat} {σ μ : mS} {v : Int64} {n : Nat} (hn : n ≤ 4000) : ∃ P T U : Int64, xx8_place N σ v (Int32.ofNat n) = some (P, σ) ∧ xj8_min_2 N σ P (Int32.toInt64 (Int32.ofNat n)) = some (T, σ) ∧ mm_upTo N μ v (Int32.ofNat n) = some (U, μ) ∧ 0 ≤ T.toInt ∧ T.toInt ≤ n ∧ (T = U ∨ (T.toInt = 0 ∧ U.toInt < 0)) := by
  have y0 : (0 : Int64).toInt = 0 := rfl
  have y1 : (1 : Int64).toInt = 1 := rfl
  have en : (Int32.toInt64 (Int32.ofNat n)).toInt = n := by rw [L_64, tI_lit (by omega)]
  have v0 := Int64.le_toInt v
  have v1 := Int64.toInt_lt v
  obtain ⟨P, p1, p2, p3⟩ := place_x (N := N) (σ := σ) (v := v) hn
  have mx : xj8_min_2 N σ P (Int32.toInt64 (Int32.ofNat n)) = some (if Int32.toInt64 (Int32.ofNat n) < P then Int32.toInt64 (Int32.ofNat n) else P, σ) := by
    rw [xj8_min_2]
    by_cases d : Int32.toInt64 (Int32.ofNat n) < P
    · rw [if_pos (lgc_gt.mpr d), if_pos d]; rfl
    · rw [if_neg (fun q => d (lgc_gt.mp q)), if_neg d]; rfl
  have m16 : ∀ y : Int64, mm_upTo_16 N (Int32.ofNat n) y μ = some (if Int32.toInt64 (Int32.ofNat n) < y then Int32.toInt64 (Int32.ofNat n) else y, μ) := fun y => by
    rw [mm_upTo_16]
    by_cases d : Int32.toInt64 (Int32.ofNat n) < y
    · rw [if_neg (fun q => by have := lgc_le.mp q; rw [L_le] at this; rw [L_lt] at d; omega), if_pos d]; rfl
    · rw [if_pos (lgc_le.mpr (by rw [L_le]; rw [L_lt] at d; omega)), if_neg d]; rfl
  have tb : 0 ≤ (if Int32.toInt64 (Int32.ofNat n) < P then Int32.toInt64 (Int32.ofNat n) else P).toInt ∧ (if Int32.toInt64 (Int32.ofNat n) < P then Int32.toInt64 (Int32.ofNat n) else P).toInt ≤ n := by
    by_cases d : Int32.toInt64 (Int32.ofNat n) < P
    · rw [if_pos d, en]; omega
    · rw [if_neg d]; rw [L_lt, en] at d; omega
  rcases p3 with ⟨q1, q2⟩ | ⟨q1, q2⟩
  · have e : v = P := by rw [L_eq, q2]
    refine ⟨P, _, _, p1, mx, ?_, tb.1, tb.2, .inl rfl⟩
    rw [mm_upTo, m16, if_pos (lgc_ge.mpr (by rw [L_le, y0]; exact q1)), e]
  · have a1 : (Int32.toInt64 (Int32.ofNat n) + v).toInt = n + v.toInt := by rw [L_add] <;> omega
    have a2 : (Int32.toInt64 (Int32.ofNat n) + v + 1).toInt = n + v.toInt + 1 := by rw [L_add, a1, y1] <;> omega
    have ng : ¬ 0 ≤ lg_cmp v 0 := fun q => by have := lgc_ge.mp q; rw [L_le, y0] at this; omega
    rcases q2 with ⟨q2, q3⟩ | ⟨q2, q3⟩
    · have e : Int32.toInt64 (Int32.ofNat n) + v + 1 = P := by rw [L_eq, a2, q2]
      refine ⟨P, _, _, p1, mx, ?_, tb.1, tb.2, .inl rfl⟩
      rw [mm_upTo, m16 (Int32.toInt64 (Int32.ofNat n) + v + 1), if_neg ng, e]
    · refine ⟨P, _, Int32.toInt64 (Int32.ofNat n) + v + 1, p1, mx, ?_, tb.1, tb.2, .inr ⟨?_, by rw [a2]; exact q3⟩⟩
      · rw [mm_upTo, m16 (Int32.toInt64 (Int32.ofNat n) + v + 1), if_neg ng, if_neg (by rw [L_lt, en, a2]; omega)]
      · rw [if_neg (by rw [L_lt, en, q2]; omega)]; exact q2
