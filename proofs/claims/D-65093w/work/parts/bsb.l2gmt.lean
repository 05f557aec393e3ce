/-! LAYER 2: getmetatable -/
theorem lib_getmeta {L : LQ} (E : EVok (lE L)) {w : WD} {σ μ : mS} (H : LC L w 0 σ μ) (hl : lB L = 16) : LO L w (xx8_getMeta (lNn L) σ) (mm_base (lNn L) μ 16) := by
  have hl' : (16 : Int32) = Int32.ofNat (lB L) := by rw [hl]; rfl
  unfold xx8_getMeta mm_base
  iterate 16 rw [if_neg (by decide)]
  rw [if_pos rfl]
  refine (any_L E H (i := 1) hl' (fun z => ⟨md_pi z 227 1, ?_, u227⟩)).elim (fun ⟨n1, a1, a2⟩ => ?_) (fun o => .inr o)
  · simp only [unless_0, bd_so, bx_so, bd_bd, lt, gd_z1, gd_z0, sF_fold, sF_pi, if_true, i10, if_false, ite_true, ite_false, mm_base_465]
  have t := VV_t (arg_V H (i := 1) (by decide))
  obtain ⟨mx, my, m1, m2, m3, m4, m5⟩ := meta_L H (i := 1) (by decide)
  -- what the reference goes on with
  have mref : (bd (mm_typeOf (lNn L) μ 1) (fun z45 => (if z45.1 = 4 then bd (mm_valueOf (lNn L) z45.2 1) (fun z47 => gd (inB (Int64.toInt32 z47.1) 3000) (mm_base_385 (lNn L) (z47.2.2.2.1 20 (Int32.toNatClampNeg (Int64.toInt32 z47.1))) z47.2)) else bd (mm_typeOf (lNn L) z45.2 1) (fun z46 => (if z46.1 = 3 then mm_base_385 (lNn L) (z46.2.1 192) z46.2 else mm_base_385 (lNn L) (-1) z46.2))))) = mm_base_385 (lNn L) my μ := by
    simp only [(tag_M H (i := 1) (by decide) (by decide)).1, (tag_M H (i := 1) (by decide) (by decide)).2, bd_so]
    by_cases c5 : aT σ 1 = 5
    · obtain ⟨q1, q2, q3, q4, _⟩ := m3 c5
      rw [if_pos (t.2.2.2.1.mp c5), gd_in (by decide) q3 q4, q1, sI_fold]
    · rw [if_neg (fun z => c5 (t.2.2.2.1.mpr z))]
      by_cases c4 : aT σ 1 = 4
      · rw [if_pos (t.2.2.1.mp c4), (m4 c4).1]; rfl
      · rw [if_neg (fun z => c4 (t.2.2.1.mpr z)), (m5 c4 c5).2]
  have hx : xx6_handler (lNn L) σ (aT σ 1) (aV σ 1) 10 = (if mx = -1 then some (-1, σ) else bd (xx3_live (lNn L) σ mx 4 (Int32.toInt64 (sI σ 392 10))) (fun z => some (z.1, z.2))) := by
    simp (disch := decide) only [xx6_handler, m1, bd_so, lt, gd_in, if_pos, if_neg, ↓reduceIte, gd_z0, gd_z1, gd_tt, sF_fold, sG_fold, sI_fold, sJ_fold]
    by_cases z : mx = -1
    · rw [if_pos z, if_pos z]; rfl
    · rw [if_neg z, if_neg z]; rfl
  rw [a1, a2]
  simp only [bx_so, bd_so, unless_1 (L_227 H), sF_fold, L_227 H, if_true, (tag_L H (i := 1) (by decide)).1, (tag_L H (i := 1) (by decide)).2, hx]
  have mref' := mref
  simp only [sF_fold] at mref'
  rw [mref']
  rcases m2 with ⟨e1, e2⟩ | hm
  · -- none
    obtain ⟨τ, τm, b1, b2, b3, _⟩ := give_L (N := lNn L) (LC_u H mf_rfl (τm := md_pi μ 42 0) (mf_pi mf_rfl rfl)) (by decide) VV_nil
    have c4 : aT σ 1 ≠ 4 := fun q => by
      have := (m4 q)
      rw [e1] at this
      have ho := H.1.1.1.2.2.1.2.2.2.2.2.2.2.1
      obtain ⟨es, es', R⟩ := H.1.1.1.1.1.2.2.1
      have := (RT_rng R ho).1
      rw [← (m4 q).2, e1] at this
      exact absurd this (by decide)
    rw [if_pos e1, e2]
    simp only [bd_so, if_true, (tag_L H (i := 1) (by decide)).1, if_neg c4]
    have mb : mm_base_385 (lNn L) (-1) μ = bd (mm_giveValue (lNn L) (md_pi μ 42 0) 0 0) (fun z1 => mm_base_465 (lNn L) z1) := by
      simp (disch := decide) only [mm_base_385, mm_base_406, mm_base_430, mm_base_454, lt, gd_in, if_pos, if_neg, ↓reduceIte, gd_z0, gd_z1, gd_tt, sF_fold, sG_fold, sI_fold, sJ_fold, sF_pi, sF_pl, sF_ai, sF_al, sG_pi, sG_pl, sG_ai, sG_al, sI_pi, sI_pl, sI_al, sI_ai1, sI_ai2, sJ_pi, sJ_pl, sJ_ai, sJ_al1, sJ_al2, Nat.reduceEqDiff, if_true, if_false, ne_eq, not_false_eq_true, ite_true, ite_false]
    rw [mb, b2]
    by_cases c5 : aT σ 1 = 5
    · obtain ⟨q1, q2, q3, q4, q5, q6⟩ := m3 c5
      rw [if_pos c5]
      simp only [bd_so, (tag_L H (i := 1) (by decide)).2, gd_in (show (3000 : Nat) < 2147483648 by decide) q5 q6, sI_fold, ← q2, e1, if_true, xx8_getMeta_b119, xx8_giveNil, b1, bx_so, xx8_getMeta_b123]
      exact LO_ok b3
    · rw [if_neg c5]
      simp only [xx8_getMeta_b119, xx8_giveNil, b1, bx_so, xx8_getMeta_b123, bd_so]
      exact LO_ok b3
  · obtain ⟨es, es', R⟩ := H.1.1.1.1.1.2.2.1
    obtain ⟨g1, g2, g3, g4⟩ := RT_rng R hm
    have H' : LC L w 0 σ (md_pi μ 42 0) := LC_u H mf_rfl (mf_pi mf_rfl rfl)
    obtain ⟨r, c, d, d1, d2, d3, d4⟩ := prot_L E H' hm
    have mn : ¬ mx = -1 := fun q => by rw [q] at g1; exact absurd g1 (by decide)
    have mb : mm_base_385 (lNn L) my μ = mm_base_406 (lNn L) my (gt (md_pi μ 42 0) c d) := by
      have e213 : sF (md_pi μ 42 0) 213 = sF μ 213 := by simp only [sF_pi, sF_pl, sF_ai, sF_al, sG_pi, sG_pl, sG_ai, sG_al, sI_pi, sI_pl, sI_al, sI_ai1, sI_ai2, sJ_pi, sJ_pl, sJ_ai, sJ_al1, sJ_al2, Nat.reduceEqDiff, if_true, if_false, ne_eq, not_false_eq_true, ite_true, ite_false]
      rw [e213] at d2
      have ny : ¬ my < 0 := by lia
      simp only [mm_base_385, lt, if_neg ny, sF_fold, sF_pi, sF_pl, sF_ai, sF_al, sG_pi, sG_pl, sG_ai, sG_al, sI_pi, sI_pl, sI_al, sI_ai1, sI_ai2, sJ_pi, sJ_pl, sJ_ai, sJ_al1, sJ_al2, Nat.reduceEqDiff, if_true, if_false, ne_eq, not_false_eq_true, ite_true, ite_false, d2, bd_so]
    rw [if_neg mn, d1, mb]
    simp only [bd_so]
    rcases d4 with ⟨rfl, rfl, rfl⟩ | ⟨r0, r1, r2, r3, r4⟩
    · have vt : VV w 5 (Int32.toInt64 mx) 4 (Int32.toInt64 my) := .inr (.inr (.inr (.inr (.inr (.inl ⟨rfl, rfl, _, _, rfl, rfl, hm⟩)))))
      obtain ⟨τ, τm, b1, b2, b3, _⟩ := give_L (N := lNn L) d3 (by decide) vt
      have ny : ¬ my < 0 := by lia
      simp only [mm_base_406, mm_base_430, mm_base_454, sF_fold, gt_42, if_true, if_neg ny, b2, bd_so, mm_base_465, (tag_L H (i := 1) (by decide)).1, (tag_L H (i := 1) (by decide)).2]
      by_cases c4 : aT σ 1 = 4
      · rw [if_pos c4, ← (m4 c4).2]
        simp only [xx8_give, b1, bx_so, xx8_getMeta_b123]
        exact LO_ok b3
      · rw [if_neg c4]
        by_cases c5 : aT σ 1 = 5
        · obtain ⟨q1, q2, q3, q4, q5, q6⟩ := m3 c5
          rw [if_pos c5]
          simp only [gd_in (show (3000 : Nat) < 2147483648 by decide) q5 q6, sI_fold, ← q2, if_neg mn, xx8_give, b1, bx_so, xx8_getMeta_b123]
          exact LO_ok b3
        · exact absurd (m5 c4 c5).1 mn
    · obtain ⟨τ, τm, b1, b2, b3, _⟩ := entry_L (N := lNn L) d3 (by decide) (.inr ⟨r0, r1, r2, r3, r4⟩)
      have rr : ¬ r = -1 := fun q => by rw [q] at r0; exact absurd r0 (by decide)
      rw [if_neg rr, b1]
      simp only [mm_base_406, mm_base_430, mm_base_454, sF_fold, sG_fold, gt_42, gt_43, if_neg r3, b2, bd_so, mm_base_465, bx_so, xx8_getMeta_b123]
      exact LO_ok b3
