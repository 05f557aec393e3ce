/-! LAYER 2: numbers: dividing downwards -/
theorem i64_neg {x : Int64} : x < 0 ↔ x.toBitVec.msb = true := by
  rw [Int64.lt_iff_toInt_lt, BitVec.msb_eq_toInt, decide_eq_true_iff]
  rfl
theorem i64_xor {x y : Int64} : x ^^^ y < 0 ↔ ¬ (x < 0 ↔ y < 0) := by
  rw [i64_neg, i64_neg, i64_neg, Int64.toBitVec_xor, BitVec.msb_xor]
  cases x.toBitVec.msb <;> cases y.toBitVec.msb <;> decide
theorem i64_rem {x y : Int64} (y0 : y ≠ 0) : (x - x / y * y).toInt = x.toInt.tmod y.toInt := by
  have hx := x.toInt_lt
  have hx' := x.le_toInt
  have hy := y.toInt_lt
  have hy' := y.le_toInt
  have n0 : y.toInt ≠ 0 := fun h => y0 (by
    apply Int64.toInt_inj.mp
    rw [h]; rfl)
  have e : x.toInt - x.toInt.tdiv y.toInt * y.toInt = x.toInt.tmod y.toInt := by
    have := Int.tmod_add_tdiv_mul x.toInt y.toInt
    omega
  rw [Int64.toInt_sub, Int64.toInt_mul, Int64.toInt_div, Int.bmod_mul_bmod, Int.sub_bmod_bmod, e]
  have b : (x.toInt.tmod y.toInt).natAbs < y.toInt.natAbs := by
    rw [Int.natAbs_tmod]
    exact Nat.mod_lt _ (by omega)
  have ab : (x.toInt.tmod y.toInt).natAbs < 2 ^ 63 := by omega
  apply Int.bmod_eq_of_le <;> omega
theorem rem_s {x y : Int64} (y0 : y ≠ 0) (r0 : x - x / y * y ≠ 0) : (x - x / y * y < 0) ↔ x < 0 := by
  have e := i64_rem (x := x) y0
  have z : (0 : Int64).toInt = 0 := rfl
  have ne : (x - x / y * y).toInt ≠ 0 := fun h => r0 (by
    apply Int64.toInt_inj.mp
    rw [h]; rfl)
  rw [Int64.lt_iff_toInt_lt, Int64.lt_iff_toInt_lt, z]
  rw [e] at ne ⊢
  by_cases c : 0 ≤ x.toInt
  · have := Int.tmod_nonneg y.toInt c
    omega
  · have := Int.tmod_nonneg y.toInt (a := -x.toInt) (by omega)
    rw [Int.neg_tmod] at this
    omega
theorem div_m1 {x : Int64} : x / -1 = -x := by
  apply Int64.toInt_inj.mp
  rw [Int64.toInt_div, show (-1 : Int64).toInt = -1 from by decide, Int.tdiv_neg, Int.tdiv_one, Int64.toInt_neg]
theorem s64_0 {x y : Int64} : x * y = x * y := rfl
theorem rem_0 {x y : Int64} : x - x / y * y = 0 ↔ x / y * y = x := by
  constructor
  · intro h
    have := congrArg (fun t => t + x / y * y) h
    simp only [Int64.sub_add_cancel, Int64.zero_add] at this
    exact this.symm
  · intro h
    rw [h, Int64.sub_self]
/-- whether one is taken off -/
theorem off_1 {x y : Int64} (y0 : y ≠ 0) (r0 : x - x / y * y ≠ 0) : (0 ≤ x ^^^ y) ↔ ((0 ≤ x - x / y * y) ↔ 0 ≤ y) := by
  have h := rem_s y0 r0
  have a := i64_xor (x := x) (y := y)
  have b : ∀ t : Int64, 0 ≤ t ↔ ¬ t < 0 := fun t => Int64.not_lt.symm
  rw [b, b, b, a, h]
  by_cases c1 : x < 0 <;> by_cases c2 : y < 0 <;> simp [c1, c2]
theorem fd_eq {x y : Int64} (y0 : y ≠ 0) (N : Nat) (σ μ : mS) : ∃ v, xj8_floorDiv N σ x y = some (v, σ) ∧ mm_reckon N μ 300 x y = some (v, μ) := by
  have d : (!decide (y = 0)) = true := by simp [y0]
  have r300 : mm_reckon N μ 300 x y = (if lg_cmp y (-1) = 0 then mm_reckon_153 N (-x) μ else gd (!decide (y = 0)) (gd (!decide (y = 0)) (if lg_cmp (x - x / y * y) 0 = 0 then mm_reckon_151 N (x / y) μ else gd (!decide (y = 0)) (if 0 ≤ lg_cmp (x - x / y * y) 0 then mm_reckon_133 N y (x / y) 0 μ else mm_reckon_133 N y (x / y) 1 μ)))) := rfl
  rw [r300, xj8_floorDiv, d, gd_tt, gd_tt, gd_tt, gd_tt, lt]
  simp only [lgc_eq, lgc_ge]
  have s0 : ∀ t : Int64, t - 0 = t := fun t => Int64.sub_zero t
  by_cases m1 : y = -1
  · subst m1
    refine ⟨-x, ?_, ?_⟩
    · rw [div_m1]
      split
      · rfl
      · rw [if_pos (by rw [Int64.neg_mul_neg, Int64.mul_one])]; rfl
    · rw [if_pos rfl]; rfl
  · rw [if_neg m1]
    by_cases r0 : x - x / y * y = 0
    · refine ⟨x / y, ?_, ?_⟩
      · split
        · rfl
        · rw [if_pos (rem_0.mp r0)]; rfl
      · rw [if_pos r0, mm_reckon_151, mm_reckon_152, s0]; rfl
    · have o := off_1 y0 r0
      rw [if_neg r0]
      by_cases c : 0 ≤ x ^^^ y
      · refine ⟨x / y, by rw [if_pos c]; rfl, ?_⟩
        have oc := o.mp c
        by_cases c1 : 0 ≤ x - x / y * y
        · rw [if_pos c1, mm_reckon_133, if_pos (lgc_ge.mpr (oc.mp c1)), mm_reckon_144, if_pos rfl, mm_reckon_151, mm_reckon_152, s0]; rfl
        · rw [if_neg c1, mm_reckon_133, if_neg (fun h => c1 (oc.mpr (lgc_ge.mp h))), mm_reckon_144, if_pos rfl, mm_reckon_151, mm_reckon_152, s0]; rfl
      · refine ⟨x / y - 1, by rw [if_neg c, if_neg (fun h => r0 (rem_0.mpr h))], ?_⟩
        by_cases c1 : 0 ≤ x - x / y * y
        · have c2 : ¬ 0 ≤ y := fun h => c (o.mpr ⟨fun _ => h, fun _ => c1⟩)
          rw [if_pos c1, mm_reckon_133, if_neg (fun h => c2 (lgc_ge.mp h)), mm_reckon_144, if_neg (by decide)]; rfl
        · have c2 : 0 ≤ y := Decidable.byContradiction (fun h => c (o.mpr ⟨fun k => absurd k c1, fun k => absurd k h⟩))
          rw [if_neg c1, mm_reckon_133, if_pos (lgc_ge.mpr c2), mm_reckon_144, if_neg (by decide)]; rfl
theorem fm_eq {x y : Int64} (y0 : y ≠ 0) (N : Nat) (σ μ : mS) : ∃ v, xj8_floorMod N σ x y = some (v, σ) ∧ mm_reckon N μ 137 x y = some (v, μ) := by
  have d : (!decide (y = 0)) = true := by simp [y0]
  have r137 : mm_reckon N μ 137 x y = (if lg_cmp y (-1) = 0 then mm_reckon_210 N 0 μ else gd (!decide (y = 0)) (gd (!decide (y = 0)) (if lg_cmp (x - x / y * y) 0 = 0 then mm_reckon_208 N (x - x / y * y) μ else gd (!decide (y = 0)) (if 0 ≤ lg_cmp (x - x / y * y) 0 then mm_reckon_190 N y (x - x / y * y) 0 μ else mm_reckon_190 N y (x - x / y * y) 1 μ)))) := rfl
  rw [r137, xj8_floorMod, d, gd_tt, gd_tt, gd_tt, gd_tt, lt]
  simp only [lgc_eq, lgc_ge]
  have s0 : ∀ t : Int64, t + 0 = t := fun t => Int64.add_zero t
  by_cases m1 : y = -1
  · subst m1
    have e : x - x / -1 * -1 = 0 := by rw [div_m1, Int64.neg_mul_neg, Int64.mul_one, Int64.sub_self]
    refine ⟨0, ?_, ?_⟩
    · rw [e]
      split
      · rfl
      · rw [if_pos rfl]; rfl
    · rw [if_pos rfl]; rfl
  · rw [if_neg m1]
    by_cases r0 : x - x / y * y = 0
    · refine ⟨0, ?_, ?_⟩
      · rw [r0]
        split
        · rfl
        · rw [if_pos rfl]; rfl
      · rw [if_pos r0, r0, mm_reckon_208, mm_reckon_209, s0]; rfl
    · have o := off_1 y0 r0
      simp only [if_neg r0]
      by_cases c : 0 ≤ x ^^^ y
      · refine ⟨x - x / y * y, by rw [if_pos c]; rfl, ?_⟩
        have oc := o.mp c
        by_cases c1 : 0 ≤ x - x / y * y
        · rw [if_pos c1, mm_reckon_190, if_pos (lgc_ge.mpr (oc.mp c1)), mm_reckon_201, if_pos rfl, mm_reckon_208, mm_reckon_209, s0]; rfl
        · rw [if_neg c1, mm_reckon_190, if_neg (fun h => c1 (oc.mpr (lgc_ge.mp h))), mm_reckon_201, if_pos rfl, mm_reckon_208, mm_reckon_209, s0]; rfl
      · refine ⟨x - x / y * y + y, by rw [if_neg c], ?_⟩
        by_cases c1 : 0 ≤ x - x / y * y
        · have c2 : ¬ 0 ≤ y := fun h => c (o.mpr ⟨fun _ => h, fun _ => c1⟩)
          rw [if_pos c1, mm_reckon_190, if_neg (fun h => c2 (lgc_ge.mp h)), mm_reckon_201, if_neg (by decide)]; rfl
        · have c2 : 0 ≤ y := Decidable.byContradiction (fun h => c (o.mpr ⟨fun k => absurd k c1, fun k => absurd k h⟩))
          rw [if_neg c1, mm_reckon_190, if_pos (lgc_ge.mpr c2), mm_reckon_201, if_neg (by decide)]; rfl
/-- two numbers, by a sign -/
def arp (op s : Int32) (k : Nat) : Prop := (op = 40 ∧ s = 143 ∧ k = 11) ∨ (op = 41 ∧ s = 145 ∧ k = 12) ∨ (op = 42 ∧ s = 142 ∧ k = 13) ∨ (op = 43 ∧ s = 300 ∧ k = 14) ∨ (op = 44 ∧ s = 137 ∧ k = 15) ∨ (op = 45 ∧ s = 138 ∧ k = 16) ∨ (op = 46 ∧ s = 224 ∧ k = 17) ∨ (op = 47 ∧ s = 226 ∧ k = 18) ∨ (op = 48 ∧ s = 301 ∧ k = 19) ∨ (op = 49 ∧ s = 302 ∧ k = 20)
theorem shift_eq {N : Nat} {σ μ : mS} {x y : Int64} : ∃ v, xx6_shift N σ x y = some (v, σ) ∧ mm_shift N μ x y = some (v, μ) := by
  rw [xx6_shift, mm_shift]
  split
  · exact ⟨_, rfl, rfl⟩
  · split
    · split
      · exact ⟨_, rfl, rfl⟩
      · exact ⟨_, rfl, rfl⟩
    · exact ⟨_, rfl, rfl⟩
theorem reckon_2 {op s : Int32} {k : Nat} (h : arp op s k) {x y : Int64} (N : Nat) (σ μ : mS) (hy : (s = 300 ∨ s = 137) → y ≠ 0) : ∃ v, xx6_reckon N σ op x y = some (.ok (v, σ)) ∧ mm_reckon N μ s x y = some (v, μ) := by
  rcases h with ⟨rfl, rfl, rfl⟩ | ⟨rfl, rfl, rfl⟩ | ⟨rfl, rfl, rfl⟩ | ⟨rfl, rfl, rfl⟩ | ⟨rfl, rfl, rfl⟩ | ⟨rfl, rfl, rfl⟩ | ⟨rfl, rfl, rfl⟩ | ⟨rfl, rfl, rfl⟩ | ⟨rfl, rfl, rfl⟩ | ⟨rfl, rfl, rfl⟩
  · exact ⟨x + y, rfl, rfl⟩
  · exact ⟨x - y, rfl, rfl⟩
  · exact ⟨x * y, rfl, rfl⟩
  · have y0 := hy (.inl rfl)
    obtain ⟨v, h1, h2⟩ := fd_eq (x := x) y0 N σ μ
    refine ⟨v, ?_, h2⟩
    have e : xx6_reckon N σ 43 x y = (if lg_cmp y 0 = 0 then bx (xx6_fault N σ (3000 + 17)) (fun z4 => some (Except.error (z4.1, z4.2))) else bd (xj8_floorDiv N σ x y) (fun z3 => xx6_reckon_b103 N z3.1 z3.2)) := rfl
    rw [e, if_neg (fun h => y0 (lgc_eq.mp h)), h1, bd_so]; rfl
  · have y0 := hy (.inr rfl)
    obtain ⟨v, h1, h2⟩ := fm_eq (x := x) y0 N σ μ
    refine ⟨v, ?_, h2⟩
    have e : xx6_reckon N σ 44 x y = (if lg_cmp y 0 = 0 then bx (xx6_fault N σ (3000 + 17)) (fun z4 => some (Except.error (z4.1, z4.2))) else bd (xj8_floorMod N σ x y) (fun z3 => xx6_reckon_b103 N z3.1 z3.2)) := rfl
    rw [e, if_neg (fun h => y0 (lgc_eq.mp h)), h1, bd_so]; rfl
  · exact ⟨x &&& y, rfl, rfl⟩
  · exact ⟨x ||| y, rfl, rfl⟩
  · exact ⟨x ^^^ y, rfl, rfl⟩
  · obtain ⟨v, h1, h2⟩ := shift_eq (N := N) (σ := σ) (μ := μ) (x := x) (y := y)
    refine ⟨v, ?_, ?_⟩
    · have e : xx6_reckon N σ 48 x y = bd (xx6_shift N σ x y) (fun z8 => some (Except.ok (z8.1, z8.2))) := rfl
      rw [e, h1, bd_so]
    · have e : mm_reckon N μ 301 x y = bd (mm_shift N μ x y) (fun z2 => some ((z2.1, z2.2) : Int64 × mS)) := rfl
      rw [e, h2, bd_so]
  · obtain ⟨v, h1, h2⟩ := shift_eq (N := N) (σ := σ) (μ := μ) (x := x) (y := -y)
    have e1 : xx6_reckon N σ 49 x y = (if lg_cmp y (-9223372036854775808) = 0 then xx6_reckon_b146 N 0 σ else bd (xx6_shift N σ x (-y)) (fun z1 => xx6_reckon_b146 N z1.1 z1.2)) := rfl
    have e2 : mm_reckon N μ 302 x y = (if lg_cmp y (-9223372036854775808) = 0 then mm_reckon_247 N 0 μ else bd (mm_shift N μ x (-y)) (fun z1 => mm_reckon_247 N z1.1 z1.2)) := rfl
    rw [e1, e2]
    split
    · exact ⟨0, rfl, rfl⟩
    · exact ⟨v, by rw [h1, bd_so]; rfl, by rw [h2, bd_so]; rfl⟩
