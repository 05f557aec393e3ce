/-! LAYER 2: functions of the house: string.sub, whole -/
theorem texts_18 {N : Nat} {z : mS} : xx8_texts N z 18 = xx8_sub N z := show bx (xx8_sub N z) (fun z7 => xx8_texts_b186 N z7) = xx8_sub N z from bx_ok
theorem ofs_18 {N : Nat} {z : mS} : mm_ofStrings N z 18 = bd (mm_isText N z 1 18) (fun z12 => bd (mm_unless N z12.2 z12.1) (fun z13 => if sF z13 227 = 0 then bd (mm_isOf N z13 2 2 18) (fun z18 => if z18.1 = 0 then mm_ofStrings_126 N z18.2 else bd (mm_mayBeNumber N z18.2 3 18) (fun z19 => if z19.1 = 0 then mm_ofStrings_126 N z19.2 else mm_ofStrings_127 N 1 z19.2)) else some z13)) := rfl
theorem lib_sub {L : LQ} (E : EVok (lE L)) {w : WD} {σ μ : mS} (H : LC L w 0 σ μ) (hl : lB L = 18) : LO L w (xx8_texts (lNn L) σ 18) (mm_ofStrings (lNn L) μ 18) := by
  have hl' : (18 : Int32) = Int32.ofNat (lB L) := by rw [hl]; rfl
  rw [texts_18, ofs_18, xx8_sub]
  refine (isText_L E H (i := 1) (v := 520) (by decide) (by decide) hl' (fun z => ⟨md_pi z 227 1, ?_, u227⟩)).elim (fun ⟨a1, a2, a3, a4⟩ => ?_) (fun o => .inr o)
  · simp only [unless_0, bd_so, bx_so, bd_bd, lt, gd_z1, gd_z0, sF_fold, sF_pi, if_true, i10, if_false, ite_true, ite_false]
  obtain ⟨l, τ, τm, len, x1, x2, x3, x4, x5, x6, H1⟩ := text_arg E H (i := 1) (by decide) (by decide) a1 (v := 520) (u := 223) (by omega) (.inl rfl)
  have u5 : m_fr uX σ τ := mf_mono x5 (fun k hk => by
    simp only [beq_eq_false_iff_ne]
    rintro rfl
    exact absurd hk (by decide))
  have H' : LC L w 0 τ μ := LC_u H u5 mf_rfl
  have H2 : LC L w 0 τ (md_pi τm 224 (Int32.ofNat l.length)) := LC_u H1 mf_rfl (mf_pi mf_rfl rfl)
  have fm : m_fr uM μ (md_pi τm 224 (Int32.ofNat l.length)) := mf_tr x6 (mf_pi mf_rfl rfl)
  have e224 : (md_pi τm 224 (Int32.ofNat l.length)).1 224 = Int32.ofNat l.length := by
    show sF (md_pi τm 224 (Int32.ofNat l.length)) 224 = _
    simp only [sF_pi, sF_pl, sF_ai, sF_al, sG_pi, sG_pl, sG_ai, sG_al, sI_pi, sI_pl, sI_al, sI_ai1, sI_ai2, sJ_pi, sJ_pl, sJ_ai, sJ_al1, sJ_al2, Nat.reduceEqDiff, if_true, if_false, ne_eq, not_false_eq_true, ite_true, ite_false]
  rw [a3 _ _ x1, a4, bx_so, bd_so]
  dsimp only
  rw [unless_1 (L_227 H), bd_so]
  simp only [L_227 H, if_true]
  refine (num_L E H' (i := 2) (by decide) (by decide) hl' (fun z => ⟨md_pi z 227 1, ?_, u227⟩)).elim (fun ⟨n0, n1, n2, n3, n4⟩ => ?_) (fun o => .inr o)
  · simp only [unless_0, bd_so, bx_so, bd_bd, lt, gd_z1, gd_z0, sF_fold, sF_pi, if_true, i10, if_false, ite_true, ite_false, mm_ofStrings_126, mm_ofStrings_127, mm_ofStrings_397]
  obtain ⟨P, F, p1, p2, p3, p4, p5, p6⟩ := from_2 (N := lNn L) (σ := τ) (μ := md_pi τm 224 (Int32.ofNat l.length)) (v := bV μ 2) len
  rw [n3, n4, bx_so, bd_so]
  dsimp only
  rw [p1, bd_so]
  dsimp only
  rw [p3, bd_so, if_neg (show ¬ (1 : Int32) = 0 by decide)]
  dsimp only
  refine (opt_L E H' (i := 3) (o := -1) (by decide) (by decide) hl' (fun z => ⟨md_pi z 227 1, ?_, u227⟩)).elim (fun ⟨v3, m1, m2, m3, o3⟩ => ?_) (fun o => .inr o)
  · simp only [unless_0, bd_so, bx_so, bd_bd, lt, gd_z1, gd_z0, sF_fold, sF_pi, if_true, i10, if_false, ite_true, ite_false, mm_ofStrings_126, mm_ofStrings_127, mm_ofStrings_397]
  have r3 := nOr (N := lNn L) (o := -1) H fm rfl rfl rfl rfl (i := 3) (by decide) (by decide)
  have ev : (if bT μ 3 = 2 then bV μ 3 else -1) = v3 := by
    rcases o3 with ⟨_, q2, q3⟩ | ⟨_, q2, q3⟩
    · rw [if_neg (by rw [q3]; decide), q2]
    · rw [if_pos q2, q3]
  rw [ev] at r3
  have t1 := tag_Mq (N := lNn L) H fm rfl rfl rfl rfl (i := 1) (by decide) (by decide)
  have t2 := tag_Mq (N := lNn L) H fm rfl rfl rfl rfl (i := 2) (by decide) (by decide)
  have tl := tag_L (N := lNn L) H' (i := 1) (by decide)
  have tt := VV_t (arg_V H (i := 1) (by decide))
  have aTe : aT τ = aT σ := aT_fr u5 rfl rfl
  obtain ⟨P', T, U, q1, q2, q3, q4, q5, q6⟩ := upto_2 (N := lNn L) (σ := τ) (μ := md_pi τm 224 (Int32.ofNat l.length)) (v := v3) len
  have v1 := Int64.toInt_lt F
  have y0 : (0 : Int64).toInt = 0 := rfl
  have y1 : (1 : Int64).toInt = 1 := rfl
  have en : (Int32.toInt64 (Int32.ofNat l.length)).toInt = l.length := by rw [L_64, tI_lit (by omega)]
  have d1 : (T - F).toInt = T.toInt - F.toInt := by rw [L_sub] <;> omega
  have d2 : (T - F + 1).toInt = T.toInt - F.toInt + 1 := by rw [L_add, d1, y1] <;> omega
  have ek : (if T - F + 1 < 0 then 0 else T - F + 1) = Int32.toInt64 (Int32.ofNat (T.toInt - F.toInt + 1).toNat) := by
    rw [L_eq, L_64, tI_lit (by omega)]
    by_cases d : T - F + 1 < 0
    · rw [if_pos d]; rw [L_lt, d2, y0] at d; rw [y0]; omega
    · rw [if_neg d]; rw [L_lt, d2, y0] at d; rw [d2]; omega
  rw [m2, m3, bx_so, bd_so, if_neg (show ¬ (1 : Int32) = 0 by decide)]
  dsimp only
  rw [q1, bd_so]
  dsimp only
  rw [q2, bd_so]
  dsimp only
  rw [mx64_x, bd_so, lt]
  dsimp only
  rw [ek, h_ll, mm_ofStrings_127, unless_1 (L_227 H), bd_so]
  simp only [sF_fold, L_227 H, if_true]
  rw [show (fun z11 => mm_ofStrings_397 (lNn L) z11) = fun z11 => some z11 from rfl, bd_id, mm_sub, read_m x2, bd_so, t2.2, bd_so]
  dsimp only
  rw [e224, p4, bd_so]
  dsimp only
  rw [r3, bd_so]
  dsimp only
  rw [e224, q3, bd_so]
  dsimp only
  rw [t1.1, bd_so]
  dsimp only
  rw [e224]
  have part := part_2 E len H2 x3 x4 p5 q4 q5 q6
  have keq : Int32.ofNat (T.toInt - F.toInt + 1).toNat = Int32.ofNat l.length ↔ (T.toInt - F.toInt + 1).toNat = l.length := oN_eq (by omega) (by omega)
  have zeq : Int32.ofNat l.length = 0 ↔ l.length = 0 := by rw [show (0 : Int32) = Int32.ofNat 0 from rfl, oN_eq (by omega) (by omega)]
  have feq : lg_cmp F 1 = 0 ↔ F.toInt = 1 := by rw [lgc_eq, L_eq, y1]
  have ueq : lg_cmp U (Int32.toInt64 (Int32.ofNat l.length)) = 0 ↔ U.toInt = l.length := by rw [lgc_eq, L_eq, en]
  by_cases c : aT σ 1 = 4
  · have c' : bT μ 1 = 3 := tt.2.2.1.mp c
    rw [if_pos c']
    by_cases k : (T.toInt - F.toInt + 1).toNat = l.length
    · have va := arg_V' H2 (i := 1) (by decide) (arg_n H2 (by rw [aTe, c]; decide))
      have b1' : bT (md_pi τm 224 (Int32.ofNat l.length)) = bT μ := bT_fr fm rfl rfl rfl
      have b2' : bV (md_pi τm 224 (Int32.ofNat l.length)) = bV μ := bV_fr fm rfl rfl
      rw [aTe, c, b1', b2', c'] at va
      obtain ⟨τ', τm', g1, g2, g3, _⟩ := give_L (N := lNn L) H2 (by decide) va
      have m66 : mm_sub_66 (lNn L) (md_pi τm 224 (Int32.ofNat l.length)) = some τm' := by
        rw [mm_sub_66, t1.2, bd_so]
        dsimp only
        rw [g2, bd_so]
      rw [if_pos (keq.mpr k), tl.1, bd_so]
      dsimp only
      rw [aTe, if_pos c, tl.2, bd_so]
      dsimp only
      rw [xx8_give, g1, bx_so, bx_so, xx8_sub_b103]
      have ref : (if Int32.ofNat l.length = 0 then mm_sub_66 (lNn L) (md_pi τm 224 (Int32.ofNat l.length)) else if lg_cmp F 1 = 0 then if lg_cmp U (Int32.toInt64 (Int32.ofNat l.length)) = 0 then mm_sub_66 (lNn L) (md_pi τm 224 (Int32.ofNat l.length)) else mm_sub_77 (lNn L) F U (md_pi τm 224 (Int32.ofNat l.length)) else mm_sub_77 (lNn L) F U (md_pi τm 224 (Int32.ofNat l.length))) = some τm' := by
        by_cases z : l.length = 0
        · rw [if_pos (zeq.mpr z), m66]
        · have ff : F.toInt = 1 := by omega
          have uu : U.toInt = l.length := by
            rcases q6 with q | q
            · rw [← q]; omega
            · omega
          rw [if_neg (fun q => z (zeq.mp q)), if_pos (feq.mpr ff), if_pos (ueq.mpr uu), m66]
      rw [ref]
      exact LO_ok g3
    · have z : ¬ l.length = 0 := fun q => k (by omega)
      have ref : (if Int32.ofNat l.length = 0 then mm_sub_66 (lNn L) (md_pi τm 224 (Int32.ofNat l.length)) else if lg_cmp F 1 = 0 then if lg_cmp U (Int32.toInt64 (Int32.ofNat l.length)) = 0 then mm_sub_66 (lNn L) (md_pi τm 224 (Int32.ofNat l.length)) else mm_sub_77 (lNn L) F U (md_pi τm 224 (Int32.ofNat l.length)) else mm_sub_77 (lNn L) F U (md_pi τm 224 (Int32.ofNat l.length))) = mm_sub_77 (lNn L) F U (md_pi τm 224 (Int32.ofNat l.length)) := by
        rw [if_neg (fun q => z (zeq.mp q))]
        by_cases ff : F.toInt = 1
        · have uu : ¬ U.toInt = l.length := fun q => by
            rcases q6 with q' | q'
            · rw [q'] at k; omega
            · omega
          rw [if_pos (feq.mpr ff), if_neg (fun q => uu (ueq.mp q))]
        · rw [if_neg (fun q => ff (feq.mp q))]
      rw [if_neg (fun q => k (keq.mp q)), ref]
      exact part
  · have c' : ¬ bT μ 1 = 3 := fun q => c (tt.2.2.1.mpr q)
    rw [if_neg c', tl.1, bd_so]
    dsimp only
    rw [aTe, if_neg c, ite_self]
    exact part
