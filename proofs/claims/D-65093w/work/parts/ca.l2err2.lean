/-! LAYER 2: functions of the house: error, whole -/
theorem lah_lb {N : Nat} {μ : mS} : mm_lineAtHand N μ = mm_lineBelow N μ 0 := by
  rw [mm_lineAtHand]
  cases mm_lineBelow N μ 0 <;> rfl
theorem plain_5 {N : Nat} {z : mS} : xx8_plain N z 5 = bx (xx8_error N z) (fun z18 => xx8_plain_b465 N z18) := rfl
theorem base_5 {N : Nat} {z : mS} : mm_base N z 5 = bd (mm_error N z 5) (fun z32 => mm_base_465 N z32) := rfl
theorem err_2L {L : LQ} (E : EVok (lE L)) {w : WD} {σ μ : mS} (H : LC L w 0 σ μ) {ln : Int32} (h4 : aT σ 1 = 4) : OEL (α := mS) L w (xx8_error_b53 (lNn L) ln σ) (mm_error_72 (lNn L) ln (md_pi μ 227 1)) := by
  by_cases z : ln = 0
  · subst z; exact err_0 E H
  · exact err_1 E H z h4
theorem lib_error {L : LQ} (E : EVok (lE L)) {w : WD} {σ μ : mS} (H : LC L w 0 σ μ) (hl : lB L = 5) : LO L w (xx8_plain (lNn L) σ 5) (mm_base (lNn L) μ 5) := by
  have hl' : (5 : Int32) = Int32.ofNat (lB L) := by rw [hl]; rfl
  have hN := EV_N E
  rw [plain_5, base_5]
  refine .inr (OEL_bx (OEL_bd ?_ (fun z _ => rfl) (fun z _ => ⟨z, rfl, mf_rfl⟩)))
  rw [xx8_error, mm_error]
  refine (opt_L E H (i := 2) (o := 1) (by decide) (by decide) hl' (fun z => ⟨md_pi z 227 1, ?_, u227⟩)).elim (fun ⟨v, n1, n2, n3, o⟩ => ?_) (fun o => o)
  · simp only [unless_0, bd_so, bx_so, bd_bd, lt, gd_z1, gd_z0, sF_fold, sF_pi, if_true, i10, if_false, ite_true, ite_false]
  have fr : m_fr (fun k => k == 227) μ (md_pi μ 227 1) := mf_pi mf_rfl rfl
  have t2 := tag_Mq (N := lNn L) H fr rfl rfl rfl rfl (i := 2) (by decide) (by decide)
  have t1 := tag_Mq (N := lNn L) H fr rfl rfl rfl rfl (i := 1) (by decide) (by decide)
  have tl := tag_L (N := lNn L) H (i := 1) (by decide)
  have t := VV_t (arg_V H (i := 1) (by decide))
  have nor : mm_numberOr (lNn L) (md_pi μ 227 1) 2 1 = some (v, md_pi μ 227 1) := by
    rw [mm_numberOr, t2.1, bd_so]
    dsimp only
    rcases o with ⟨_, q2, q3⟩ | ⟨_, q2, q3⟩
    · rw [if_neg (by rw [q3]; decide), q2]; rfl
    · rw [if_pos q2, t2.2, bd_so, q3]; rfl
  have C1 : CL (lE L) w (lX L) (lc L) (ld L) (lR L) (lT L) σ (md_pi μ 227 1) := CL_lt H.1.1 mf_rfl (mf_pi mf_rfl rfl) (CL_0 H.1.1)
  have b := (CL_b C1).2.2.1
  have la := lah_2 (N := eN (lE L)) hN C1.1 (FL_LK C1.2.2) (by lia)
  have lb := lbl_2 (N := eN (lE L)) hN C1.1 (FL_LK C1.2.2) (by lia)
  rw [lah_lb] at la
  rw [n2, n3, bx_so, bd_so]
  dsimp only
  rw [unless_1 (L_227 H), bd_so]
  simp only [sF_fold, L_227 H, if_true]
  rw [gd_z1, lt, nor, bd_so, tl.1, bd_so]
  dsimp only
  rw [t1.1, bd_so]
  dsimp only
  by_cases c : aT σ 1 = 4
  · rw [if_pos c, if_pos (t.2.2.1.mp c)]
    by_cases v1 : lg_cmp v 1 = 0
    · have la1 : xx6_lineAtHand (lNn L) σ = some (lnH σ (lX L (lc L)), σ) := la.1
      have la2 : mm_lineBelow (lNn L) (md_pi μ 227 1) 0 = some (lnH σ (lX L (lc L)), md_pi μ 227 1) := la.2
      rw [if_pos v1, if_pos v1, xx8_error_b32, mm_error_57, if_pos v1, if_pos v1, mm_error_69, la1, la2, bd_so, bd_so, xx8_error_b52]
      exact err_2L E H c
    · by_cases v2 : lg_cmp v 2 = 0
      · have la1 : xx8_lineBelow (lNn L) σ = some (lnB σ (lX L (lc L)), σ) := lb.1
        have la2 : mm_lineBelow (lNn L) (md_pi μ 227 1) 1 = some (lnB σ (lX L (lc L)), md_pi μ 227 1) := lb.2
        rw [if_neg v1, if_neg v1, if_pos v2, if_pos v2, xx8_error_b32, mm_error_57, if_neg v1, if_neg v1, mm_error_69, la1, la2, bd_so, bd_so, xx8_error_b52]
        exact err_2L E H c
      · rw [if_neg v1, if_neg v1, if_neg v2, if_neg v2, mm_error_53]
        exact err_0 E H
  · rw [if_neg c, if_neg (fun q => c (t.2.2.1.mpr q)), mm_error_53]
    exact err_0 E H
