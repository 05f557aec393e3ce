/-! LAYER 2: functions of the house: numbers -/
theorem VV_n {w : WD} {v : Int64} : VV w 3 v 2 v := .inr (.inr (.inr (.inl ⟨rfl, rfl, rfl⟩)))
theorem lib_abs {L : LQ} (E : EVok (lE L)) {w : WD} {σ μ : mS} (H : LC L w 0 σ μ) (hl : lB L = 33) : LO L w (xx8_math (lNn L) σ 33) (mm_ofNumbers (lNn L) μ 33) := by
  have hl' : (33 : Int32) = Int32.ofNat (lB L) := by rw [hl]; rfl
  unfold xx8_math mm_ofNumbers
  rw [if_pos rfl, if_pos rfl]
  refine (num_L E H (i := 1) (by decide) (by decide) hl' (fun z => ⟨md_pi z 227 1, ?_, u227⟩)).elim (fun ⟨c1, c2, c3, c4, c5⟩ => ?_) (fun o => .inr o)
  · simp only [unless_0, bd_so, bx_so, bd_bd, lt, gd_z1, gd_z0, sF_fold, sF_pi, if_true, i10, if_false, ite_true, ite_false, mm_ofNumbers_349]
  have tm := tag_M (N := lNn L) H (i := 1) (by decide) (by decide)
  rw [c4, c5, bx_so, bd_so]
  dsimp only
  rw [unless_1 (L_227 H), bd_so]
  simp only [sF_fold, L_227 H, if_true]
  rw [tm.2, bd_so]
  dsimp only
  by_cases z : 0 ≤ bV μ 1
  · obtain ⟨τ, τm, b1, b2, b3, _⟩ := give_L (N := lNn L) H (by decide) (VV_n (v := bV μ 1))
    rw [if_pos (lgc_ge.mpr z), tm.2, bd_so, xj8_abs_2, if_pos (lgc_ge.mpr z), xj8_abs_2_b12, bd_so]
    dsimp only
    rw [mm_ofNumbers_112, b2, bd_so, xx8_giveNumber, b1, bx_so, bx_so]
    exact LO_ok b3
  · obtain ⟨τ, τm, b1, b2, b3, _⟩ := give_L (N := lNn L) H (by decide) (VV_n (v := -bV μ 1))
    rw [if_neg (fun q => z (lgc_ge.mp q)), tm.2, bd_so, xj8_abs_2, if_neg (fun q => z (lgc_ge.mp q)), xj8_abs_2_b12, bd_so]
    dsimp only
    rw [mm_ofNumbers_112, b2, bd_so, xx8_giveNumber, b1, bx_so, bx_so]
    exact LO_ok b3
theorem lib_ult {L : LQ} (E : EVok (lE L)) {w : WD} {σ μ : mS} (H : LC L w 0 σ μ) (hl : lB L = 36) : LO L w (xx8_math (lNn L) σ 36) (mm_ofNumbers (lNn L) μ 36) := by
  have hl' : (36 : Int32) = Int32.ofNat (lB L) := by rw [hl]; rfl
  unfold xx8_math mm_ofNumbers
  iterate 3 rw [if_neg (by decide)]
  rw [if_pos rfl]
  iterate 3 rw [if_neg (by decide)]
  rw [if_pos rfl]
  refine (num_L E H (i := 1) (by decide) (by decide) hl' (fun z => ⟨md_pi z 227 1, ?_, u227⟩)).elim (fun ⟨c1, c2, c3, c4, c5⟩ => ?_) (fun o => .inr o)
  · simp only [unless_0, bd_so, bx_so, bd_bd, lt, gd_z1, gd_z0, sF_fold, sF_pi, if_true, i10, if_false, ite_true, ite_false, mm_ofNumbers_151, mm_ofNumbers_152, mm_ofNumbers_349]
  rw [c4, c5, bx_so, bd_so]
  dsimp only
  rw [if_neg (show ¬ (1 : Int32) = 0 by decide)]
  refine (num_L E H (i := 2) (by decide) (by decide) hl' (fun z => ⟨md_pi z 227 1, ?_, u227⟩)).elim (fun ⟨d1, d2, d3, d4, d5⟩ => ?_) (fun o => .inr o)
  · simp only [unless_0, bd_so, bx_so, bd_bd, lt, gd_z1, gd_z0, sF_fold, sF_pi, if_true, i10, if_false, ite_true, ite_false, mm_ofNumbers_151, mm_ofNumbers_152, mm_ofNumbers_349]
  have tm := tag_M (N := lNn L) H (i := 1) (by decide) (by decide)
  have tm2 := tag_M (N := lNn L) H (i := 2) (by decide) (by decide)
  rw [d4, d5, bx_so, bd_so]
  dsimp only
  rw [if_neg (show ¬ (1 : Int32) = 0 by decide), mm_ofNumbers_152, unless_1 (L_227 H), bd_so]
  simp only [sF_fold, L_227 H, if_true]
  rw [tm.2, bd_so]
  dsimp only
  rw [tm2.2, bd_so]
  dsimp only
  have cm : ∀ a b : Int64, ∃ r, (∀ σ, xj9_compareUnsigned (lNn L) σ a b = some (r, σ)) ∧ (0 ≤ r ↔ 0 ≤ lg_cmp (a + -9223372036854775808) (b + -9223372036854775808)) := fun a b => by
    simp only [xj9_compareUnsigned, xj9_compare, xj9_compare_b21]
    generalize lg_cmp (a + -9223372036854775808) (b + -9223372036854775808) = x
    by_cases p : 0 ≤ x
    · by_cases q : x = 0
      · exact ⟨0, fun σ => by rw [if_pos p, if_pos q]; rfl, ⟨fun _ => p, fun _ => by decide⟩⟩
      · exact ⟨1, fun σ => by rw [if_pos p, if_neg q]; rfl, ⟨fun _ => p, fun _ => by decide⟩⟩
    · exact ⟨-1, fun σ => by rw [if_neg p]; rfl, ⟨fun z => absurd z (by decide), fun z => absurd z p⟩⟩
  obtain ⟨r, r1, r2⟩ := cm (bV μ 1) (bV μ 2)
  rw [r1, bd_so]
  dsimp only
  by_cases z : 0 ≤ lg_cmp (bV μ 1 + -9223372036854775808) (bV μ 2 + -9223372036854775808)
  · obtain ⟨τ, τm, b1, b2, b3⟩ := truth_L (N := lNn L) H (by decide) (r := 0) (.inr rfl)
    rw [if_pos rfl] at b2
    rw [if_pos z, if_pos (r2.mpr z), xx8_math_b138, b1, bx_so, mm_ofNumbers_191, b2, bd_so]
    exact LO_ok b3
  · obtain ⟨τ, τm, b1, b2, b3⟩ := truth_L (N := lNn L) H (by decide) (r := 1) (.inl rfl)
    rw [if_neg (show ¬ (1 : Int32) = 0 by decide)] at b2
    rw [if_neg z, if_neg (fun q => z (r2.mp q)), xx8_math_b138, b1, bx_so, mm_ofNumbers_191, b2, bd_so]
    exact LO_ok b3
theorem lib_toint {L : LQ} {w : WD} {σ μ : mS} (H : LC L w 0 σ μ) : LO L w (xx8_math (lNn L) σ 37) (mm_ofNumbers (lNn L) μ 37) := by
  unfold xx8_math mm_ofNumbers
  iterate 4 rw [if_neg (by decide)]
  iterate 4 rw [if_neg (by decide)]
  rw [if_pos rfl]
  have t := VV_t (arg_V H (i := 1) (by decide))
  have tl := tag_L (N := lNn L) H (i := 1) (by decide)
  have tm := tag_M (N := lNn L) H (i := 1) (by decide) (by decide)
  rw [tl.1, tm.1, bd_so, bd_so]
  dsimp only
  by_cases c : aT σ 1 = 3
  · have v := arg_V' H (i := 1) (by decide) (arg_n H (by rw [c]; decide))
    rw [c, t.2.1.mp c] at v
    obtain ⟨τ, τm, b1, b2, b3, _⟩ := give_L (N := lNn L) H (by decide) v
    rw [if_pos c, if_pos (t.2.1.mp c), xx8_math_b159, mm_ofNumbers_212, tl.1, tm.1, bd_so, bd_so]
    dsimp only
    rw [if_pos c, if_pos (t.2.1.mp c), tl.2, tm.2, bd_so, bd_so]
    dsimp only
    rw [xx8_math_b177, mm_ofNumbers_230, xx8_give, b1, b2, bx_so, bx_so, bd_so]
    exact LO_ok b3
  · have c' : ¬ bT μ 1 = 2 := fun q => c (t.2.1.mpr q)
    obtain ⟨τ, τm, b1, b2, b3, _⟩ := give_L (N := lNn L) H (by decide) VV_nil
    rw [if_neg c, if_neg c', xx8_math_b159, mm_ofNumbers_212, tl.1, tm.1, bd_so, bd_so]
    dsimp only
    rw [if_neg c, if_neg c', xx8_math_b177, mm_ofNumbers_230, xx8_give, b1, b2, bx_so, bx_so, bd_so]
    exact LO_ok b3
/-- the greatest, the least: all are numbers -/
theorem ext_ok {L : LQ} {w : WD} {σ μ : mS} (H : LC L w 0 σ μ) {v1 : Int32} {n : Int32} (hn : n = ln L) (hv : v1 = 34 ∨ v1 = 35) (hal : ∀ i, 1 ≤ i → i ≤ n → aT σ i = 3) : ∀ (m : Nat) (i : Int32) (b : Int64), 2 ≤ i → i ≤ 101 → (n.toInt - i.toInt + 1).toNat < m → ∃ r, xx8_math_b56 (lNn L) m v1 b i σ = bx (xx8_giveNumber (lNn L) σ r) (fun z => xx8_math_b180 (lNn L) z) ∧ mm_extreme_64 (lNn L) m v1 n b i μ = bd (mm_giveValue (lNn L) μ 2 r) (fun z => some z) := by
  have n1 := H.2.1.2
  have e399 : sF σ 399 = ln L := H.2.1.1.1
  intro m
  induction m with
  | zero => intro i b _ _ h; omega
  | succ m ih =>
    intro i b i0 i1 hm
    rw [xx8_math_b56, mm_extreme_64]
    simp only [sF_fold, e399, ← hn]
    by_cases c : n < i
    · rw [if_pos c, if_pos c]
      exact ⟨b, rfl, rfl⟩
    · have i2 : 1 ≤ i := by lia
      have a3 := hal i i2 (by lia)
      have v := arg_V' H (i := i) i2 (by rw [← hn]; exact c)
      have eV : aV σ i = bV μ i := by
        rcases v with v | v | v | v | v | v | v | v | v
        case inr.inr.inr.inl => exact v.2.2
        all_goals (obtain ⟨q, _⟩ := v; rw [a3] at q; exact absurd q (by decide))
      have tl := tag_L (N := lNn L) H (i := i) i2
      have tm := tag_M (N := lNn L) H (i := i) i2 (by lia)
      have nx : xx8_number (lNn L) σ i = some (.ok (bV μ i, σ)) := by
        rw [xx8_number, tl.1, bd_so]
        dsimp only
        rw [if_pos a3, tl.2, bd_so, eV]
      have ee : (i + 1).toInt = i.toInt + 1 := tI_s (n := 102) (by lia)
      have c' := c
      rw [tI_lt] at c'
      have ih' := fun b' => ih (i + 1) b' (by lia) (by lia) (by rw [ee]; omega)
      rw [if_neg c, if_neg c, nx, bx_so]
      dsimp only
      rcases hv with rfl | rfl
      · rw [if_pos rfl, if_pos rfl, tm.2, bd_so, xj8_max_2]
        dsimp only
        by_cases q : lg_cmp (bV μ i) b ≤ 0
        · have q' : ¬ lg_cmp b (bV μ i) < 0 := fun z => by
            rw [lgc_lt] at z; rw [lgc_le] at q
            rw [L_lt] at z; rw [L_le] at q; omega
          rw [if_pos q, if_neg q', xj8_max_2_b11, bd_so, mm_extreme_111, if_pos rfl, mm_extreme_128, lt]
          dsimp only
          rw [xx8_math_b97, lt]
          exact ih' b
        · have q' : lg_cmp b (bV μ i) < 0 := by
            rw [lgc_lt, L_lt]; rw [lgc_le, L_le] at q; omega
          rw [if_neg q, if_pos q', xj8_max_2_b11, bd_so, mm_extreme_111, if_neg (by decide), tm.2, bd_so, mm_extreme_128, lt]
          dsimp only
          rw [xx8_math_b97, lt]
          exact ih' (bV μ i)
      · rw [if_neg (show ¬ (35 : Int32) = 34 by decide), if_neg (show ¬ (35 : Int32) = 34 by decide), tm.2, bd_so, xj8_min_2]
        dsimp only
        by_cases q : 0 ≤ lg_cmp (bV μ i) b
        · have q' : ¬ 0 < lg_cmp b (bV μ i) := fun z => by
            rw [lgc_gt] at z; rw [lgc_ge] at q
            rw [L_lt] at z; rw [L_le] at q; omega
          rw [if_pos q, if_neg q', xj8_min_2_b11, bd_so, mm_extreme_111, if_pos rfl, mm_extreme_128, lt]
          dsimp only
          rw [xx8_math_b97, lt]
          exact ih' b
        · have q' : 0 < lg_cmp b (bV μ i) := by
            rw [lgc_gt, L_lt]; rw [lgc_ge, L_le] at q; omega
          rw [if_neg q, if_pos q', xj8_min_2_b11, bd_so, mm_extreme_111, if_neg (by decide), tm.2, bd_so, mm_extreme_128, lt]
          dsimp only
          rw [xx8_math_b97, lt]
          exact ih' (bV μ i)
/-- the system comes to the first that is no number -/
theorem ext_x {L : LQ} {w : WD} {σ μ : mS} (H : LC L w 0 σ μ) {v1 j : Int32} (hv : v1 = 34 ∨ v1 = 35) (jn : j ≤ ln L ∨ j = 1) (hal : ∀ i, 1 ≤ i → i < j → aT σ i = 3) : ∀ (m : Nat) (i : Int32) (b : Int64), 2 ≤ i → i ≤ j → (j.toInt - i.toInt).toNat < m → ∃ f, xx8_math_b56 (lNn L) m v1 b i σ = bx (xx8_number (lNn L) σ j) f := by
  have n1 := H.2.1.2
  have e399 : sF σ 399 = ln L := H.2.1.1.1
  intro m
  induction m with
  | zero => intro i b _ _ h; omega
  | succ m ih =>
    intro i b i0 i1 hm
    rw [xx8_math_b56]
    simp only [sF_fold, e399]
    have c : ¬ ln L < i := by
      rcases jn with q | q
      · lia
      · exfalso; lia
    rw [if_neg c]
    by_cases d : i = j
    · subst d; exact ⟨_, rfl⟩
    · have i2 : 1 ≤ i := by lia
      have ij : i < j := by lia
      have a3 := hal i i2 ij
      have tl := tag_L (N := lNn L) H (i := i) i2
      have nx : xx8_number (lNn L) σ i = some (.ok (aV σ i, σ)) := by
        rw [xx8_number, tl.1, bd_so]
        dsimp only
        rw [if_pos a3, tl.2, bd_so]
      have ee := tI_s ij
      rw [tI_lt] at ij
      have ih' := fun b' => ih (i + 1) b' (by lia) (by rw [tI_le]; omega) (by rw [ee]; omega)
      rw [nx, bx_so]
      dsimp only
      by_cases q : v1 = 34
      · rw [if_pos q, xj8_max_2]
        by_cases r : lg_cmp b (aV σ i) < 0
        · rw [if_pos r, xj8_max_2_b11, bd_so, xx8_math_b97, lt]; exact ih' _
        · rw [if_neg r, xj8_max_2_b11, bd_so, xx8_math_b97, lt]; exact ih' _
      · rw [if_neg q, xj8_min_2]
        by_cases r : 0 < lg_cmp b (aV σ i)
        · rw [if_pos r, xj8_min_2_b11, bd_so, xx8_math_b97, lt]; exact ih' _
        · rw [if_neg r, xj8_min_2_b11, bd_so, xx8_math_b97, lt]; exact ih' _
/-- the reference as far as j -/
theorem ext_m {L : LQ} {w : WD} {σ μ : mS} (H : LC L w 0 σ μ) {v1 j n : Int32} (j0 : 1 ≤ j) (jn : j ≤ n + 1) (n0 : 1 ≤ n) (n1 : n ≤ 100) (hnL : n = ln L ∨ n = 1) (hal : ∀ i, 1 ≤ i → i < j → bT μ i = 2) : ∀ (m : Nat) (i : Int32), 1 ≤ i → i ≤ j → (j.toInt - i.toInt).toNat + 2 < m → ∃ m', 1 ≤ m' ∧ mm_extreme_18 (lNn L) m v1 n i μ = mm_extreme_18 (lNn L) (m' + 1) v1 n j μ := by
  intro m
  induction m with
  | zero => intro i _ _ h; omega
  | succ m ih =>
    intro i i0 i1 hm
    by_cases d : i = j
    · subst d; exact ⟨m, by omega, rfl⟩
    · have ij : i < j := by lia
      have ib : i ≤ 150 := by lia
      have tm := tag_M (N := lNn L) H (i := i) i0 ib
      have io : mm_isOf (lNn L) μ i 2 v1 = some (1, μ) := by
        rw [mm_isOf, tm.1, bd_so]
        dsimp only
        rw [if_pos (hal i i0 ij)]
        rfl
      have ee := tI_s ij
      have il : i + 1 ≤ j := by lia
      have i0' : 1 ≤ i + 1 := by lia
      obtain ⟨m', h1, h2⟩ := ih (i + 1) i0' il (by rw [tI_lt] at ij; rw [ee]; omega)
      refine ⟨m', h1, ?_⟩
      rw [mm_extreme_18, if_neg (by lia)]
      simp only [sF_fold, L_227 H, if_true]
      rw [io, bd_so]
      dsimp only
      rw [unless_1 (L_227 H), bd_so, lt]
      exact h2
theorem lib_extreme {L : LQ} (E : EVok (lE L)) {w : WD} {σ μ : mS} (H : LC L w 0 σ μ) {v1 : Int32} (hv : v1 = 34 ∨ v1 = 35) (hl' : v1 = Int32.ofNat (lB L)) : LO L w (bx (xx8_number (lNn L) σ 1) (fun z => xx8_math_b56 (lNn L) (lNn L) v1 z.1 2 z.2)) (mm_extreme (lNn L) μ v1) := by
  have n1 := H.2.1.2
  have n0 := H.2.1.1.2.1
  have e222 : sF μ 222 = ln L := H.2.2.1.2.2.2.1
  have hb : BIG ≤ lNn L := EV_N E
  have hB : BIG = 8589934592 := rfl
  obtain ⟨n, hn⟩ : ∃ n : Int32, n = if ln L = 0 then 1 else ln L := ⟨_, rfl⟩
  have n2 : 1 ≤ n ∧ n ≤ 100 ∧ (n = ln L ∨ n = 1) := by
    by_cases z : ln L = 0
    · rw [if_pos z] at hn; exact ⟨by lia, by lia, .inr hn⟩
    · rw [if_neg z] at hn; exact ⟨by lia, by lia, .inl hn⟩
  have em : mm_extreme (lNn L) μ v1 = mm_extreme_18 (lNn L) (lNn L) v1 n 1 μ := by
    simp only [mm_extreme, mm_extreme_15, sF_fold, e222]
    by_cases z : ln L = 0
    · rw [if_pos z] at hn ⊢; rw [hn]
    · rw [if_neg z] at hn ⊢; rw [hn]
  have bnd : ∀ i j : Int32, (j.toInt - i.toInt).toNat + 2 < lNn L := fun i j => by
    have := tI_rng i
    have := tI_rng j
    omega
  rw [em]
  by_cases al : ∀ i, 1 ≤ i → i ≤ n → aT σ i = 3
  · -- all are numbers
    have a1 := al 1 (by decide) n2.1
    have nl : ¬ ln L < 1 := arg_n H (by rw [a1]; decide)
    have nL : n = ln L := by
      rcases n2.2.2 with q | q
      · exact q
      · rw [hn, if_neg (by lia)]
    have tl := tag_L (N := lNn L) H (i := 1) (by decide)
    have tm := tag_M (N := lNn L) H (i := 1) (by decide) (by decide)
    have v := arg_V' H (i := 1) (by decide) nl
    have eV : aV σ 1 = bV μ 1 := by
      rcases v with v | v | v | v | v | v | v | v | v
      case inr.inr.inr.inl => exact v.2.2
      all_goals (obtain ⟨q, _⟩ := v; rw [a1] at q; exact absurd q (by decide))
    have nx : xx8_number (lNn L) σ 1 = some (.ok (bV μ 1, σ)) := by
      rw [xx8_number, tl.1, bd_so]
      dsimp only
      rw [if_pos a1, tl.2, bd_so, eV]
    obtain ⟨m', h1, h2⟩ := ext_m H (v1 := v1) (j := n + 1) (n := n) (by lia) (Int32.le_refl _) n2.1 n2.2.1 n2.2.2 (fun i i0 i1 => (VV_t (arg_V H i0)).2.1.mp (al i i0 (by lia))) (lNn L) 1 (by decide) (by lia) (bnd _ _)
    obtain ⟨r, r1, r2⟩ := ext_ok H nL hv al (lNn L) 2 (bV μ 1) (by decide) (by decide) (by
      have := bnd 2 n
      omega)
    obtain ⟨τ, τm, b1, b2, b3, _⟩ := give_L (N := lNn L) H (by decide) (VV_n (v := r))
    rw [nx, bx_so, h2, mm_extreme_18, if_pos (by lia), mm_extreme_47]
    simp only [sF_fold, L_227 H, if_true]
    rw [tm.2, bd_so]
    dsimp only
    rw [r1, r2, xx8_giveNumber, b1, b2, bx_so, bx_so, bd_so, xx8_math_b180]
    exact LO_ok b3
  · -- the first that is none
    obtain ⟨j, j0, j1, j2, j3⟩ : ∃ j : Int32, 1 ≤ j ∧ j ≤ n ∧ aT σ j ≠ 3 ∧ ∀ i, 1 ≤ i → i < j → aT σ i = 3 := by
      have key : ∀ (d : Nat) (i : Int32), 1 ≤ i → (n.toInt - i.toInt + 1).toNat ≤ d → (∀ k, 1 ≤ k → k < i → aT σ k = 3) → (∃ j : Int32, 1 ≤ j ∧ j ≤ n ∧ aT σ j ≠ 3 ∧ ∀ k, 1 ≤ k → k < j → aT σ k = 3) ∨ (∀ k, 1 ≤ k → k ≤ n → aT σ k = 3) := by
        intro d
        induction d with
        | zero =>
          intro i i0 hd hk
          refine .inr (fun k k0 k1 => hk k k0 ?_)
          rw [tI_lt]
          rw [tI_le] at k1
          omega
        | succ d ih =>
          intro i i0 hd hk
          by_cases c : n < i
          · exact .inr (fun k k0 k1 => hk k k0 (by lia))
          · by_cases e : aT σ i = 3
            · have ee : (i + 1).toInt = i.toInt + 1 := tI_s (n := 102) (by lia)
              exact ih (i + 1) (by lia) (by rw [ee]; omega) (fun k k0 k1 => by
                by_cases q : k < i
                · exact hk k k0 q
                · have : k = i := by lia
                  subst this; exact e)
            · exact .inl ⟨i, i0, by lia, e, hk⟩
      rcases key ((n.toInt - (1 : Int32).toInt + 1).toNat) 1 (by decide) (by omega) (fun k k0 k1 => by exfalso; lia) with h | h
      · exact h
      · exact absurd h al
    obtain ⟨m', h1, h2⟩ := ext_m H (v1 := v1) (j := j) (n := n) j0 (by lia) n2.1 n2.2.1 n2.2.2 (fun i i0 i1 => (VV_t (arg_V H i0)).2.1.mp (j3 i i0 i1)) (lNn L) 1 (by decide) j0 (bnd _ _)
    obtain ⟨m'', rfl⟩ : ∃ k, m' = k + 1 := ⟨m' - 1, by omega⟩
    have jb : j ≤ 150 := by lia
    obtain ⟨f, hf⟩ : ∃ f, bx (xx8_number (lNn L) σ 1) (fun z => xx8_math_b56 (lNn L) (lNn L) v1 z.1 2 z.2) = bx (xx8_number (lNn L) σ j) f := by
      by_cases d : j = 1
      · subst d; exact ⟨_, rfl⟩
      · have tl := tag_L (N := lNn L) H (i := 1) (by decide)
        have a1 := j3 1 (by decide) (by lia)
        have nl : ¬ ln L < 1 := arg_n H (by rw [a1]; decide)
        have nL : n = ln L := by
          rcases n2.2.2 with q | q
          · exact q
          · rw [hn, if_neg (by lia)]
        have nx : xx8_number (lNn L) σ 1 = some (.ok (aV σ 1, σ)) := by
          rw [xx8_number, tl.1, bd_so]
          dsimp only
          rw [if_pos a1, tl.2, bd_so]
        obtain ⟨f, hf⟩ := ext_x H hv (j := j) (.inl (by lia)) j3 (lNn L) 2 (aV σ 1) (by decide) (by lia) (by have := bnd 2 j; omega)
        exact ⟨f, by rw [nx, bx_so]; exact hf⟩
    rw [hf, h2, mm_extreme_18, if_neg (by lia)]
    simp only [sF_fold, L_227 H, if_true]
    refine (num_L E H (i := j) j0 jb hl' (fun z => ⟨md_pi z 227 1, ?_, u227⟩)).elim (fun ⟨c1, _⟩ => absurd c1 j2) (fun o => .inr o)
    dsimp only
    rw [unless_0, bd_so, lt, mm_extreme_18]
    have w1 : ¬ sF (md_pi z 227 1) 227 = 0 := by simp only [sF_pi, sF_pl, sF_ai, sF_al, sG_pi, sG_pl, sG_ai, sG_al, sI_pi, sI_pl, sI_al, sI_ai1, sI_ai2, sJ_pi, sJ_pl, sJ_ai, sJ_al1, sJ_al2, Nat.reduceEqDiff, if_true, if_false, ne_eq, not_false_eq_true, ite_true, ite_false]; decide
    by_cases q : n < j + 1
    · rw [if_pos q, mm_extreme_47]
      simp only [sF_fold]
      rw [if_neg w1]
    · rw [if_neg q, mm_extreme_47]
      simp only [sF_fold]
      rw [if_neg w1, if_neg w1]
