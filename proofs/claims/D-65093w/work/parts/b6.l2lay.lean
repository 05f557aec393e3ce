/-! LAYER 2: what waits is laid together -/
theorem wts_d {μ : mS} {d : Int32} (d0 : 0 ≤ d) (d1 : d < 120) : wts μ d ↔ (sI μ 170 d = 1 ∧ sI μ 156 d = 0 ∧ sI μ 159 d = 1) := ⟨fun h => h.2.2, fun h => ⟨d0, d1, h⟩⟩
theorem waits_1 {N : Nat} {μ : mS} {d : Int32} (h : wts μ d) : mm_waits N μ d = some (1, μ) := by
  obtain ⟨h0, h1, h2, h3, h4⟩ := h
  simp (disch := lia) only [mm_waits, mm_waits_31, mm_waits_32, lt, gd_in, if_pos, if_neg, ↓reduceIte, gd_z0, gd_z1, gd_tt, sF_fold, sG_fold, sI_fold, sJ_fold, h2, h3, h4]
theorem waits_0 {N : Nat} {μ : mS} {d : Int32} (d0 : 0 ≤ d) (d1 : d < 120) (h : ¬ wts μ d) (h70 : sI μ 170 d = 0 ∨ sI μ 170 d = 1) (h59 : sI μ 170 d = 1 → sI μ 156 d = 0 → sI μ 159 d = 0 ∨ sI μ 159 d = 1) : mm_waits N μ d = some (0, μ) := by
  rw [wts_d d0 d1] at h
  by_cases a : sI μ 170 d = 0
  · simp (disch := lia) only [mm_waits, mm_waits_31, mm_waits_32, lt, gd_in, if_pos, if_neg, ↓reduceIte, gd_z0, gd_z1, gd_tt, sF_fold, sG_fold, sI_fold, sJ_fold, a]
  · by_cases b : sI μ 156 d = 0
    · by_cases c : sI μ 159 d = 0
      · simp (disch := first | exact a | lia) only [mm_waits, mm_waits_31, mm_waits_32, lt, gd_in, if_pos, if_neg, ↓reduceIte, gd_z0, gd_z1, gd_tt, sF_fold, sG_fold, sI_fold, sJ_fold, b, c]
      · exact absurd ⟨h70.resolve_left a, b, (h59 (h70.resolve_left a) b).resolve_left c⟩ h
    · simp (disch := first | exact a | exact b | lia) only [mm_waits, mm_waits_31, mm_waits_32, lt, gd_in, if_pos, if_neg, ↓reduceIte, gd_z0, gd_z1, gd_tt, sF_fold, sG_fold, sI_fold, sJ_fold]
/-- the next one to be laid: at: where they lie; sz: how much; behind a; among those below m -/
def NXp (W : Int32 → Prop) (at' sz : Int32 → Int32) (a v m : Int32) : Prop := (v = -1 ∧ ∀ d, 0 ≤ d → d < m → W d → 0 < sz d → at' d ≤ a) ∨ ((0 ≤ v ∧ v < 120) ∧ W v ∧ 0 < sz v ∧ a < at' v ∧ ∀ d, 0 ≤ d → d < m → W d → 0 < sz d → a < at' d → at' v ≤ at' d)
theorem NXp_s {W : Int32 → Prop} {at' sz : Int32 → Int32} {a v m : Int32} (m0 : 0 ≤ m) (m1 : m < 120) (H : NXp W at' sz a v m) (h : ¬ W m ∨ ¬ 0 < sz m ∨ ¬ a < at' m ∨ (0 ≤ v ∧ at' v ≤ at' m)) : NXp W at' sz a v (m + 1) := by
  rcases H with ⟨h1, h2⟩ | ⟨h1, h2, h3, h4, h5⟩
  · refine .inl ⟨h1, fun d d0 d1 w s => ?_⟩
    by_cases q : d = m
    · subst q
      rcases h with h | h | h | h
      · exact absurd w h
      · exact absurd s h
      · exact Int32.not_lt.mp h
      · exfalso
        have := h.1
        rw [h1] at this
        exact absurd this (by decide)
    · exact h2 d d0 (by clear h2 h; lia) w s
  · refine .inr ⟨h1, h2, h3, h4, fun d d0 d1 w s t => ?_⟩
    by_cases q : d = m
    · subst q
      rcases h with h | h | h | h
      · exact absurd w h
      · exact absurd s h
      · exact absurd t h
      · exact h.2
    · exact h5 d d0 (by clear h5 h; lia) w s t
theorem NXp_n {W : Int32 → Prop} {at' sz : Int32 → Int32} {a v m : Int32} (m0 : 0 ≤ m) (m1 : m < 120) (H : NXp W at' sz a v m) (w : W m) (s : 0 < sz m) (t : a < at' m) (h : v < 0 ∨ at' m < at' v) : NXp W at' sz a m (m + 1) := by
  refine .inr ⟨⟨m0, m1⟩, w, s, t, fun d d0 d1 w' s' t' => ?_⟩
  by_cases q : d = m
  · subst q; exact Int32.le_refl _
  · rcases H with ⟨h1, h2⟩ | ⟨h1, h2, h3, h4, h5⟩
    · have := h2 d d0 (by clear h2 h; lia) w' s'
      exact absurd t' (Int32.not_lt.mpr this)
    · have := h5 d d0 (by clear h5 h; lia) w' s' t'
      rcases h with h | h
      · exact absurd h (Int32.not_lt.mpr h1.1)
      · exact Int32.le_of_lt (Int32.lt_of_lt_of_le h this)
/-- marks hold truths -/
def bZ (μ : mS) : Prop := ∀ d, 0 ≤ d → d < 120 → (sI μ 170 d = 0 ∨ sI μ 170 d = 1) ∧ (sI μ 170 d = 1 → sI μ 156 d = 0 → sI μ 159 d = 0 ∨ sI μ 159 d = 1)
/-- the second search -/
theorem lt81 {N : Nat} {r9 : Int32 → Int32 → Int32 → Int32 → mS → Option mS} {r18 : Int32 → Int32 → Int32 → Int32 → Int32 → Int32 → Int32 → mS → Option mS} {μ : mS} (B : bZ μ) {v1 v2 v3 v4 v5 v6 i : Int32} (i0 : 0 ≤ i) (i1 : i < 120) (H : NXp (wts μ) (sI μ 165) (sI μ 166) v4 v6 i) : ∃ v6', mm_layTogether_81 N r9 r18 v1 v2 v3 v4 v5 v6 i μ = r18 v1 v2 v3 v4 v5 v6' (i + 1) μ ∧ NXp (wts μ) (sI μ 165) (sI μ 166) v4 v6' (i + 1) := by
  have g1 : 0 ≤ i ∧ i < 121 := ⟨i0, Int32.lt_trans i1 (by decide)⟩
  have hv : v6 < 0 ∨ (0 ≤ v6 ∧ v6 < 121) := by
    rcases H with ⟨h, _⟩ | ⟨h, _⟩
    · exact .inl (by rw [h]; decide)
    · exact .inr ⟨h.1, Int32.lt_trans h.2 (by decide)⟩
  by_cases w : wts μ i
  · by_cases s : 0 < sI μ 166 i
    · by_cases t : v4 < sI μ 165 i
      · rcases hv with hv | hv
        · refine ⟨i, ?_, NXp_n i0 i1 H w s t (.inl hv)⟩
          clear H B
          simp (disch := first | exact g1.1 | exact g1.2 | exact hv | decide | lia) only [mm_layTogether_81, mm_layTogether_134, mm_layTogether_138, waits_1 w, bd, lt, gd_in, if_pos, if_neg, ↓reduceIte, gd_z0, gd_z1, gd_tt, sF_fold, sG_fold, sI_fold, sJ_fold]
        · by_cases u : sI μ 165 v6 ≤ sI μ 165 i
          · refine ⟨v6, ?_, NXp_s i0 i1 H (.inr (.inr (.inr ⟨hv.1, u⟩)))⟩
            clear H B
            simp (disch := first | exact g1.1 | exact g1.2 | exact hv.1 | exact hv.2 | exact u | decide | lia) only [mm_layTogether_81, mm_layTogether_134, mm_layTogether_138, waits_1 w, bd, lt, gd_in, if_pos, if_neg, ↓reduceIte, gd_z0, gd_z1, gd_tt, sF_fold, sG_fold, sI_fold, sJ_fold]
          · refine ⟨i, ?_, NXp_n i0 i1 H w s t (.inr (Int32.not_le.mp u))⟩
            clear H B
            simp (disch := first | exact g1.1 | exact g1.2 | exact hv.1 | exact hv.2 | exact u | decide | lia) only [mm_layTogether_81, mm_layTogether_134, mm_layTogether_138, waits_1 w, bd, lt, gd_in, if_pos, if_neg, ↓reduceIte, gd_z0, gd_z1, gd_tt, sF_fold, sG_fold, sI_fold, sJ_fold]
      · refine ⟨v6, ?_, NXp_s i0 i1 H (.inr (.inr (.inl t)))⟩
        clear H B
        simp (disch := first | exact g1.1 | exact g1.2 | decide | lia) only [mm_layTogether_81, mm_layTogether_134, mm_layTogether_138, waits_1 w, bd, lt, gd_in, if_pos, if_neg, ↓reduceIte, gd_z0, gd_z1, gd_tt, sF_fold, sG_fold, sI_fold, sJ_fold]
    · refine ⟨v6, ?_, NXp_s i0 i1 H (.inr (.inl s))⟩
      clear H B
      simp (disch := first | exact g1.1 | exact g1.2 | decide | lia) only [mm_layTogether_81, mm_layTogether_134, mm_layTogether_138, waits_1 w, bd, lt, gd_in, if_pos, if_neg, ↓reduceIte, gd_z0, gd_z1, gd_tt, sF_fold, sG_fold, sI_fold, sJ_fold]
  · refine ⟨v6, ?_, NXp_s i0 i1 H (.inl w)⟩
    have b := B i i0 i1
    simp only [mm_layTogether_81, mm_layTogether_138, waits_0 i0 i1 w b.1 b.2, bd, lt]
    rw [if_pos trivial]
/-- both searches at one -/
theorem lt18 {N : Nat} {r9 : Int32 → Int32 → Int32 → Int32 → mS → Option mS} {n : Nat} {μ : mS} (B : bZ μ) {v1 v2 v3 v4 v5 v6 i : Int32} (i0 : 0 ≤ i) (i1 : i < 120) (H5 : NXp (wts μ) (sI μ 163) (sI μ 164) v3 v5 i) (H : NXp (wts μ) (sI μ 165) (sI μ 166) v4 v6 i) : ∃ v5' v6', mm_layTogether_18 N r9 (n + 1) v1 v2 v3 v4 v5 v6 i μ = mm_layTogether_18 N r9 n v1 v2 v3 v4 v5' v6' (i + 1) μ ∧ NXp (wts μ) (sI μ 163) (sI μ 164) v3 v5' (i + 1) ∧ NXp (wts μ) (sI μ 165) (sI μ 166) v4 v6' (i + 1) := by
  have g1 : 0 ≤ i ∧ i < 121 := ⟨i0, Int32.lt_trans i1 (by decide)⟩
  have hv : v5 < 0 ∨ (0 ≤ v5 ∧ v5 < 121) := by
    rcases H5 with ⟨h, _⟩ | ⟨h, _⟩
    · exact .inl (by rw [h]; decide)
    · exact .inr ⟨h.1, Int32.lt_trans h.2 (by decide)⟩
  have ni : ¬ (120 ≤ i) := Int32.not_le.mpr i1
  obtain ⟨a5, q5, p5⟩ : ∃ a5, mm_layTogether_18 N r9 (n + 1) v1 v2 v3 v4 v5 v6 i μ = mm_layTogether_81 N r9 (mm_layTogether_18 N r9 n) v1 v2 v3 v4 a5 v6 i μ ∧ NXp (wts μ) (sI μ 163) (sI μ 164) v3 a5 (i + 1) := by
    by_cases w : wts μ i
    · by_cases s : 0 < sI μ 164 i
      · by_cases t : v3 < sI μ 163 i
        · rcases hv with hv | hv
          · refine ⟨i, ?_, NXp_n i0 i1 H5 w s t (.inl hv)⟩
            clear H H5 B
            simp (disch := first | exact g1.1 | exact g1.2 | exact hv | exact ni | decide | lia) only [mm_layTogether_18, mm_layTogether_77, waits_1 w, bd, lt, gd_in, if_pos, if_neg, ↓reduceIte, gd_z0, gd_z1, gd_tt, sF_fold, sG_fold, sI_fold, sJ_fold]
          · by_cases u : sI μ 163 v5 ≤ sI μ 163 i
            · refine ⟨v5, ?_, NXp_s i0 i1 H5 (.inr (.inr (.inr ⟨hv.1, u⟩)))⟩
              clear H H5 B
              simp (disch := first | exact g1.1 | exact g1.2 | exact hv.1 | exact hv.2 | exact u | exact ni | decide | lia) only [mm_layTogether_18, mm_layTogether_77, waits_1 w, bd, lt, gd_in, if_pos, if_neg, ↓reduceIte, gd_z0, gd_z1, gd_tt, sF_fold, sG_fold, sI_fold, sJ_fold]
            · refine ⟨i, ?_, NXp_n i0 i1 H5 w s t (.inr (Int32.not_le.mp u))⟩
              clear H H5 B
              simp (disch := first | exact g1.1 | exact g1.2 | exact hv.1 | exact hv.2 | exact u | exact ni | decide | lia) only [mm_layTogether_18, mm_layTogether_77, waits_1 w, bd, lt, gd_in, if_pos, if_neg, ↓reduceIte, gd_z0, gd_z1, gd_tt, sF_fold, sG_fold, sI_fold, sJ_fold]
        · refine ⟨v5, ?_, NXp_s i0 i1 H5 (.inr (.inr (.inl t)))⟩
          clear H H5 B
          simp (disch := first | exact g1.1 | exact g1.2 | exact ni | decide | lia) only [mm_layTogether_18, mm_layTogether_77, waits_1 w, bd, lt, gd_in, if_pos, if_neg, ↓reduceIte, gd_z0, gd_z1, gd_tt, sF_fold, sG_fold, sI_fold, sJ_fold]
      · refine ⟨v5, ?_, NXp_s i0 i1 H5 (.inr (.inl s))⟩
        clear H H5 B
        simp (disch := first | exact g1.1 | exact g1.2 | exact ni | decide | lia) only [mm_layTogether_18, mm_layTogether_77, waits_1 w, bd, lt, gd_in, if_pos, if_neg, ↓reduceIte, gd_z0, gd_z1, gd_tt, sF_fold, sG_fold, sI_fold, sJ_fold]
    · refine ⟨v5, ?_, NXp_s i0 i1 H5 (.inl w)⟩
      have b := B i i0 i1
      simp only [mm_layTogether_18, waits_0 i0 i1 w b.1 b.2, bd]
      rw [if_neg ni, if_pos trivial]
  obtain ⟨v6', q6, p6⟩ := lt81 (N := N) (r9 := r9) (r18 := mm_layTogether_18 N r9 n) B (v1 := v1) (v2 := v2) (v3 := v3) (v5 := a5) i0 i1 H
  exact ⟨a5, v6', by rw [q5, q6], p5, p6⟩
/-- what comes behind the searches -/
def ltE (N : Nat) (r9 : Int32 → Int32 → Int32 → Int32 → mS → Option mS) (v1 v2 v3 v4 v5 v6 : Int32) (σ : mS) : Option mS := (if v5 < 0 then mm_layTogether_232 N r9 v1 v2 v3 v4 v5 v6 σ else gd (inB v5 121) (mm_layTogether_160 N r9 N v1 v2 (sI σ 163 v5) v4 v5 v6 0 σ))
theorem lt_find {N : Nat} (hN : BIG ≤ N) {r9 : Int32 → Int32 → Int32 → Int32 → mS → Option mS} {μ : mS} (B : bZ μ) {v1 v2 v3 v4 : Int32} : ∃ v5 v6, mm_layTogether_18 N r9 N v1 v2 v3 v4 (-1) (-1) 0 μ = ltE N r9 v1 v2 v3 v4 v5 v6 μ ∧ NXp (wts μ) (sI μ 163) (sI μ 164) v3 v5 120 ∧ NXp (wts μ) (sI μ 165) (sI μ 166) v4 v6 120 := by
  have main := loop_up (lo := 0) (m := 120) (fun j i => ∀ v5 v6, NXp (wts μ) (sI μ 163) (sI μ 164) v3 v5 i → NXp (wts μ) (sI μ 165) (sI μ 166) v4 v6 i → ∃ v5' v6', mm_layTogether_18 N r9 j v1 v2 v3 v4 v5 v6 i μ = ltE N r9 v1 v2 v3 v4 v5' v6' μ ∧ NXp (wts μ) (sI μ 163) (sI μ 164) v3 v5' 120 ∧ NXp (wts μ) (sI μ 165) (sI μ 166) v4 v6' 120) (fun j i i0 i1 ih v5 v6 h5 h6 => by
    by_cases c : i < 120
    · obtain ⟨a5, a6, q, p5, p6⟩ := lt18 (N := N) (r9 := r9) (n := j) B (v1 := v1) (v2 := v2) i0 c h5 h6
      obtain ⟨b5, b6, q', p'⟩ := ih c a5 a6 p5 p6
      exact ⟨b5, b6, by rw [q, q'], p'⟩
    · have e : i = 120 := Int32.le_antisymm i1 (Int32.not_lt.mp c)
      subst e
      refine ⟨v5, v6, ?_, h5, h6⟩
      simp only [mm_layTogether_18, ltE, lt, sI_fold]
      rw [if_pos (by decide)])
  exact main N 0 (by decide) (by decide) (big_d hN) (-1) (-1) (.inl ⟨rfl, fun d d0 d1 => absurd d1 (Int32.not_lt.mpr d0)⟩) (.inl ⟨rfl, fun d d0 d1 => absurd d1 (Int32.not_lt.mpr d0)⟩)
