/-! LAYER 2: metatables, getmetatable -/
/-- metatables -/
theorem meta_L {L : LQ} {w : WD} {g i : Int32} {σ μ : mS} (H : LC L w g σ μ) (i0 : 1 ≤ i) : ∃ mx my, (∀ N, xx6_metaOf N σ (aT σ i) (aV σ i) = some (mx, σ)) ∧ ((mx = -1 ∧ my = -1) ∨ (mx, my) ∈ wT w) ∧ (aT σ i = 5 → my = sI μ 20 (bV μ i).toInt32 ∧ mx = sI σ 195 (aV σ i).toInt32 ∧ 0 ≤ (bV μ i).toInt32 ∧ (bV μ i).toInt32 < 3000 ∧ 0 ≤ (aV σ i).toInt32 ∧ (aV σ i).toInt32 < 3000) ∧ (aT σ i = 4 → my = sF μ 192 ∧ mx = sF σ 394) ∧ (aT σ i ≠ 4 → aT σ i ≠ 5 → mx = -1 ∧ my = -1) := by
  obtain ⟨es, es', R⟩ := H.1.1.1.1.1.2.2.1
  by_cases c5 : aT σ i = 5
  · have v := arg_V' H i0 (arg_n H (by rw [c5]; decide))
    rw [c5] at v
    obtain ⟨v1, v2, v3⟩ := VV_tb v
    obtain ⟨r1, r2, r3, r4⟩ := RT_rng R v1
    refine ⟨_, _, fun N => ?_, (R.2.2.2.2 _ _ v1).2.1, fun _ => ⟨rfl, rfl, r3, r4, r1, r2⟩, fun h => absurd (c5.symm.trans h) (by decide), fun _ h => absurd c5 h⟩
    simp (disch := first | decide | assumption) only [xx6_metaOf, xx6_metaOf_b31, c5, lt, gd_in, if_pos, if_neg, ↓reduceIte, gd_z0, gd_z1, gd_tt, sF_fold, sG_fold, sI_fold, sJ_fold]
  · by_cases c4 : aT σ i = 4
    · refine ⟨_, _, fun N => ?_, .inr H.1.1.1.2.2.1.2.2.2.2.2.2.2.1, fun h => absurd h c5, fun _ => ⟨rfl, rfl⟩, fun h => absurd c4 h⟩
      simp (disch := first | decide | assumption) only [xx6_metaOf, xx6_metaOf_b31, c4, lt, gd_in, if_pos, if_neg, ↓reduceIte, gd_z0, gd_z1, gd_tt, sF_fold, sG_fold, sI_fold, sJ_fold]
    · refine ⟨-1, -1, fun N => ?_, .inl ⟨rfl, rfl⟩, fun h => absurd h c5, fun h => absurd h c4, fun _ _ => ⟨rfl, rfl⟩⟩
      simp (disch := first | decide | assumption) only [xx6_metaOf, xx6_metaOf_b31, lt, gd_in, if_pos, if_neg, ↓reduceIte, gd_z0, gd_z1, gd_tt, sF_fold, sG_fold, sI_fold, sJ_fold]
/-- what a metatable has under __metatable -/
theorem prot_L {L : LQ} (E : EVok (lE L)) {w : WD} {g mx my : Int32} {σ μ : mS} (H : LC L w g σ μ) (h : (mx, my) ∈ wT w) : ∃ r c d, xx3_live (lNn L) σ mx 4 (Int32.toInt64 (sI σ 392 10)) = some (r, σ) ∧ mm_get (lNn L) μ my 3 (Int32.toInt64 (sF μ 213)) = some (gt μ c d) ∧ LC L w g σ (gt μ c d) ∧ ((r = -1 ∧ c = 0 ∧ d = 0) ∨ (0 ≤ r ∧ r < 20000 ∧ sI σ 214 r ≠ 0 ∧ c ≠ 0 ∧ VV w (sI σ 214 r) (sJ σ 215 r) c d)) := by
  have nm := H.1.1.1.2.2.1.1 10 (by decide)
  have vk : VV w 4 (Int32.toInt64 (sI σ 392 10)) 3 (Int32.toInt64 (sF μ 213)) := .inr (.inr (.inr (.inr (.inl ⟨rfl, rfl, _, _, rfl, rfl, .inr nm⟩))))
  exact live_L E H h vk (by decide)
