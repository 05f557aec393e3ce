/-! LAYER 2: functions of the house: string.byte, whole -/
theorem texts_19' {N : Nat} {z : mS} : xx8_texts N z 19 = xx8_bytes N z := texts_19.trans bx_ok
theorem lib_byte {L : LQ} (E : EVok (lE L)) {w : WD} {σ μ : mS} (H : LC L w 0 σ μ) (hl : lB L = 19) : LO L w (xx8_texts (lNn L) σ 19) (mm_ofStrings (lNn L) μ 19) := by
  have hl' : (19 : Int32) = Int32.ofNat (lB L) := by rw [hl]; rfl
  rw [texts_19', ofs_19, xx8_bytes]
  refine (isText_L E H (i := 1) (v := 520) (by decide) (by decide) hl' (fun z => ⟨md_pi z 227 1, ?_, u227⟩)).elim (fun ⟨a1, a2, a3, a4⟩ => ?_) (fun o => .inr o)
  · simp only [unless_0, bd_so, bx_so, bd_bd, lt, gd_z1, gd_z0, sF_fold, sF_pi, if_true, i10, if_false, ite_true, ite_false]
  obtain ⟨l, τ, τm, len, x1, x2, x3, x4, x5, x6, H1⟩ := text_arg E H (i := 1) (by decide) (by decide) a1 (v := 520) (u := 223) (by omega) (.inl rfl)
  have u5 : m_fr uX σ τ := mf_mono x5 (fun k hk => by
    simp only [beq_eq_false_iff_ne]
    rintro rfl
    exact absurd hk (by decide))
  have H' : LC L w 0 τ μ := LC_u H u5 mf_rfl
  have H2 : LC L w 0 τ (md_pi τm 224 (Int32.ofNat l.length)) := LC_u H1 mf_rfl (mf_pi mf_rfl rfl)
  have fm : m_fr uM μ (md_pi τm 224 (Int32.ofNat l.length)) := mf_tr x6 (mf_pi mf_rfl rfl)
  have e224 : (md_pi τm 224 (Int32.ofNat l.length)).1 224 = Int32.ofNat l.length := by
    show sF (md_pi τm 224 (Int32.ofNat l.length)) 224 = _
    simp only [sF_pi, sF_pl, sF_ai, sF_al, sG_pi, sG_pl, sG_ai, sG_al, sI_pi, sI_pl, sI_al, sI_ai1, sI_ai2, sJ_pi, sJ_pl, sJ_ai, sJ_al1, sJ_al2, Nat.reduceEqDiff, if_true, if_false, ne_eq, not_false_eq_true, ite_true, ite_false]
  rw [a3 _ _ x1, a4, bx_so, bd_so]
  dsimp only
  rw [unless_1 (L_227 H), bd_so]
  simp only [L_227 H, if_true]
  refine (opt_L E H' (i := 2) (o := 1) (by decide) (by decide) hl' (fun z => ⟨md_pi z 227 1, ?_, u227⟩)).elim (fun ⟨v, n1, n2, n3, o⟩ => ?_) (fun o => .inr o)
  · simp only [unless_0, bd_so, bx_so, bd_bd, lt, gd_z1, gd_z0, sF_fold, sF_pi, if_true, i10, if_false, ite_true, ite_false, mm_ofStrings_167, mm_ofStrings_168, mm_ofStrings_397]
  obtain ⟨P, F, p1, p2, p3, p4, p5, p6⟩ := from_2 (N := lNn L) (σ := τ) (μ := md_pi τm 224 (Int32.ofNat l.length)) (v := v) len
  rw [n2, n3, bx_so, bd_so]
  dsimp only
  rw [p1, bd_so]
  dsimp only
  rw [p3, bd_so, if_neg (show ¬ (1 : Int32) = 0 by decide)]
  dsimp only
  refine (opt_L E H' (i := 3) (o := P) (by decide) (by decide) hl' (fun z => ⟨md_pi z 227 1, ?_, u227⟩)).elim (fun ⟨v3, m1, m2, m3, o3⟩ => ?_) (fun o => .inr o)
  · simp only [unless_0, bd_so, bx_so, bd_bd, lt, gd_z1, gd_z0, sF_fold, sF_pi, if_true, i10, if_false, ite_true, ite_false, mm_ofStrings_167, mm_ofStrings_168, mm_ofStrings_397]
  have r2 := nOr (N := lNn L) (o := 1) H fm rfl rfl rfl rfl (i := 2) (by decide) (by decide)
  have r3 := nOr (N := lNn L) (o := v) H fm rfl rfl rfl rfl (i := 3) (by decide) (by decide)
  have ev : (if bT μ 2 = 2 then bV μ 2 else 1) = v := by
    rcases o with ⟨_, q2, q3⟩ | ⟨_, q2, q3⟩
    · rw [if_neg (by rw [q3]; decide), q2]
    · rw [if_pos q2, q3]
  rw [ev] at r2
  obtain ⟨P', T, U, q1, q2, q3, q4, q5, q6⟩ := upto_2 (N := lNn L) (σ := τ) (μ := md_pi τm 224 (Int32.ofNat l.length)) (v := if bT μ 3 = 2 then bV μ 3 else v) len
  have pl : xx8_place (lNn L) τ v3 (Int32.ofNat l.length) = some (P', τ) := by
    rcases o3 with ⟨_, s2, s3⟩ | ⟨_, s2, s3⟩
    · rw [if_neg (by rw [s3]; decide), p1] at q1
      cases q1
      rw [s2]
      exact place_p len p2
    · rw [if_pos s2, ← s3] at q1
      exact q1
  rw [m2, m3, bx_so, bd_so, if_neg (show ¬ (1 : Int32) = 0 by decide)]
  dsimp only
  rw [pl, bd_so]
  dsimp only
  rw [q2, bd_so, mm_ofStrings_168, unless_1 (L_227 H), bd_so]
  simp only [sF_fold, L_227 H, if_true]
  rw [show (fun z9 => mm_ofStrings_397 (lNn L) z9) = fun z9 => some z9 from rfl, bd_id, mm_giveBytes, read_m x2, bd_so, r2, bd_so]
  dsimp only
  rw [e224, p4, bd_so]
  dsimp only
  rw [r3, bd_so]
  dsimp only
  rw [e224, q3, bd_so]
  exact byte_2 E len H2 x3 x4 p5 q4 q5 q6
