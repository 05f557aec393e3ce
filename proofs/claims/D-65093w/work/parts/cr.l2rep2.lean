/-! LAYER 2: functions of the house: string.rep, whole -/
theorem rp_0 {l l2 : List Int32} (h : l.length + l2.length = 0) : ∀ k, (rpL l l2 k).length = 0
  | 0 => rfl
  | k + 1 => by
    rw [rp_len]
    have h1 : l.length = 0 := by omega
    have h2 : l2.length = 0 := by omega
    rw [h1, h2]; omega
theorem m_mul {v : Int64} {b : Nat} {V : Nat} (hv : v.toInt = V) (V1 : V ≤ 100000) (hb : b ≤ 8000) : (v * Int32.toInt64 (Int32.ofNat b)).toInt = V * b := by
  have e : (Int32.toInt64 (Int32.ofNat b)).toInt = b := by rw [L_64, tI_lit (by omega)]
  have le : V * b ≤ 100000 * 8000 := Nat.mul_le_mul V1 hb
  rw [Int64.toInt_mul, hv, e]
  exact Int.bmod_eq_of_le (by omega) (by omega)
theorem rep_fin {L : LQ} (E : EVok (lE L)) {w : WD} {l l2 : List Int32} (hl : l.length ≤ 4000) (hl2 : l2.length ≤ 4000) {v : Int64} {σ μ : mS} (H : LC L w 0 σ μ) (hv : bV μ 2 = v) (e224 : sF μ 224 = Int32.ofNat l.length) (x1 : hasL (σ.2.2.1 520) 0 l) (x2 : hasL (σ.2.2.1 521) 0 l2) (y1 : hasL (μ.2.2.1 223) 0 l) (y2 : hasL (μ.2.2.1 225) 0 l2) : LO L w (xx8_repeat_b37 (lNn L) (Int32.ofNat l.length) v (Int32.ofNat l2.length) σ) (mm_repeat_27 (lNn L) (Int32.ofNat l2.length) μ) := by
  have big : 100000 < lNn L := by
    have := EV_N E
    simp only [BIG] at this
    show 100000 < eN (lE L)
    omega
  have z0 : (0 : Int64).toInt = 0 := rfl
  have z4 : (4000 : Int64).toInt = 4000 := rfl
  have z41 : (4001 : Int64).toInt = 4001 := rfl
  have z42 : (4002 : Int64).toInt = 4002 := rfl
  have H1 : LC L w 0 σ (md_pi μ 226 (Int32.ofNat l2.length)) := LC_u H mf_rfl (mf_pi mf_rfl rfl)
  have H2 : LC L w 0 σ (md_pi (md_pi μ 226 (Int32.ofNat l2.length)) 17 0) := LC_u H mf_rfl (mf_pi (mf_pi mf_rfl rfl) rfl)
  have tm := tag_Mq (N := lNn L) H (show m_fr (fun k => k == 226) μ (md_pi μ 226 (Int32.ofNat l2.length)) from mf_pi mf_rfl rfl) rfl rfl rfl rfl (i := 2) (by decide) (by decide)
  have f224 : sF (md_pi (md_pi μ 226 (Int32.ofNat l2.length)) 17 0) 224 = Int32.ofNat l.length := by simp only [sF_pi, sF_pl, sF_ai, sF_al, sG_pi, sG_pl, sG_ai, sG_al, sI_pi, sI_pl, sI_al, sI_ai1, sI_ai2, sJ_pi, sJ_pl, sJ_ai, sJ_al1, sJ_al2, Nat.reduceEqDiff, if_true, if_false, ne_eq, not_false_eq_true, ite_true, ite_false]; exact e224
  have f226 : sF (md_pi (md_pi μ 226 (Int32.ofNat l2.length)) 17 0) 226 = Int32.ofNat l2.length := by simp only [sF_pi, sF_pl, sF_ai, sF_al, sG_pi, sG_pl, sG_ai, sG_al, sI_pi, sI_pl, sI_al, sI_ai1, sI_ai2, sJ_pi, sJ_pl, sJ_ai, sJ_al1, sJ_al2, Nat.reduceEqDiff, if_true, if_false, ne_eq, not_false_eq_true, ite_true, ite_false]
  have pos : Int32.ofNat l.length + Int32.ofNat l2.length ≤ 0 ↔ l.length + l2.length = 0 := by
    rw [oN_add, show (0 : Int32) = Int32.ofNat 0 from rfl, oN_le (by omega) (by omega)]; omega
  -- nothing is put together
  have nil : (v.toInt ≤ 0 ∨ l.length + l2.length = 0) → LO L w (xx8_repeat_b184 (lNn L) 0 σ) (mm_repeat_222 (lNn L) (md_pi (md_pi μ 226 (Int32.ofNat l2.length)) 17 0)) := fun _ => by
    have := bytes_L E H2 (g := 0) (by decide) (v := 522) (p := 0) (l := []) vB_522 (by decide) (fun _ => ⟨by simp, hasL_nil⟩) bufL_0 (by simp)
    rw [xx8_repeat_b184, mm_repeat_222]
    exact LO_end this (fun z => rfl) (fun z => rfl)
  have b102 : (v.toInt ≤ 0 ∨ l.length + l2.length = 0) → xx8_repeat_b102 (lNn L) (Int32.ofNat l.length) v (Int32.ofNat l2.length) σ = xx8_repeat_b184 (lNn L) 0 σ := fun o => by
    obtain ⟨n, hn⟩ : ∃ j, lNn L = j + 1 := ⟨lNn L - 1, by omega⟩
    rw [xx8_repeat_b102]
    conv => lhs; arg 2; rw [hn]
    rw [xx8_repeat_b108]
    by_cases c : v.toInt ≤ 0
    · rw [if_pos (lgc_ge.mpr (by rw [L_le, z0]; exact c))]
    · rw [if_neg (fun q => c (by have := lgc_ge.mp q; rw [L_le, z0] at this; exact this)), if_pos (pos.mpr (by omega))]
  have ref0 : (v.toInt ≤ 0 ∨ l.length + l2.length = 0) → mm_repeat_27 (lNn L) (Int32.ofNat l2.length) μ = mm_repeat_222 (lNn L) (md_pi (md_pi μ 226 (Int32.ofNat l2.length)) 17 0) := fun o => by
    rw [mm_repeat_27, lt, tm.2, bd_so, lt, hv, sF_fold, sF_fold, f224, f226]
    dsimp only
    by_cases c : v.toInt ≤ 0
    · rw [if_pos (lgc_le.mpr (by rw [L_le, z0]; exact c))]
    · rw [if_neg (fun q => c (by have := lgc_le.mp q; rw [L_le, z0] at this; exact this)), if_pos (pos.mpr (by omega))]
  by_cases c1 : v.toInt ≤ 0
  · have q1 : lg_cmp v 0 ≤ 0 := lgc_le.mpr (by rw [L_le, z0]; exact c1)
    rw [xx8_repeat_b37, if_pos q1, xx8_repeat_b60, if_pos q1, b102 (.inl c1), ref0 (.inl c1)]
    exact nil (.inl c1)
  have q1 : ¬ lg_cmp v 0 ≤ 0 := fun q => c1 (by have := lgc_le.mp q; rw [L_le, z0] at this; exact this)
  by_cases c2 : l.length + l2.length = 0
  · have q2 := pos.mpr c2
    rw [xx8_repeat_b37, if_neg q1, if_pos q2, xx8_repeat_b60, if_neg q1, if_pos q2, ite_self, b102 (.inr c2), ref0 (.inr c2)]
    exact nil (.inr c2)
  have q2 : ¬ Int32.ofNat l.length + Int32.ofNat l2.length ≤ 0 := fun q => c2 (pos.mp q)
  -- the reference
  have ref : ∀ (V : Nat) (v5 : Int64), v5.toInt = V → V ≤ 4002 → ∃ τ, mm_repeat_74 (lNn L) v5 (md_pi (md_pi μ 226 (Int32.ofNat l2.length)) 17 0) = mm_repeat_222 (lNn L) τ ∧ m_fr bK (md_pi (md_pi μ 226 (Int32.ofNat l2.length)) 17 0) τ ∧ (((rpL l l2 V).length ≤ 4000 ∧ bufL τ (rpL l l2 V)) ∨ (4000 < (rpL l l2 V).length ∧ sF τ 17 = 4001)) := fun V v5 h5 hV => by
    have := rm_lp (N := lNn L) (by omega) (l := l) (l2 := l2) (V := V) h5 (by omega) hl hl2 V 0 (lNn L) (md_pi (md_pi μ 226 (Int32.ofNat l2.length)) 17 0) (by omega) (by omega) f224 f226 y1 y2 bufL_0 (by simp [rpL])
    exact this
  have r27 : mm_repeat_27 (lNn L) (Int32.ofNat l2.length) μ = if lg_cmp v 4002 ≤ 0 then mm_repeat_74 (lNn L) v (md_pi (md_pi μ 226 (Int32.ofNat l2.length)) 17 0) else mm_repeat_74 (lNn L) 4002 (md_pi (md_pi μ 226 (Int32.ofNat l2.length)) 17 0) := by
    rw [mm_repeat_27, lt, tm.2, bd_so, lt, hv, sF_fold, sF_fold, f224, f226]
    dsimp only
    rw [if_neg q1, if_neg q2]
  -- too long
  have long : ∀ τ, m_fr bK (md_pi (md_pi μ 226 (Int32.ofNat l2.length)) 17 0) τ → sF τ 17 = 4001 → LO L w (xx8_repeat_b91 (lNn L) σ) (mm_repeat_222 (lNn L) τ) := fun τ fr h17 => by
    rw [xx8_repeat_b91, mm_repeat_222, bd_id, mm_giveMade, sF_fold, h17, if_neg (show ¬ (4001 : Int32) ≤ 4000 by decide)]
    exact .inr (fault_Lk E (LC_u H2 mf_rfl (bK_u fr)).1 (t := 109) (tm := 30) (by decide) (by decide) (by decide +kernel) (by decide +kernel) (fun z => ⟨md_pi z 227 1, by rw [gd_z1, lt], u227⟩))
  by_cases c3 : 4001 < v.toInt
  · have q3 : 0 < lg_cmp v 4001 := lgc_gt.mpr (by rw [L_lt, z41]; exact c3)
    rw [xx8_repeat_b37, if_neg q1, if_neg q2, if_pos q3, r27]
    have big2 : 4000 < (rpL l l2 4002).length := by rw [show 4002 = 4001 + 1 from rfl, rp_len]; omega
    have fin : ∃ τ, mm_repeat_74 (lNn L) 4002 (md_pi (md_pi μ 226 (Int32.ofNat l2.length)) 17 0) = mm_repeat_222 (lNn L) τ ∧ m_fr bK (md_pi (md_pi μ 226 (Int32.ofNat l2.length)) 17 0) τ ∧ sF τ 17 = 4001 := by
      obtain ⟨τ, t1, t2, t3⟩ := ref 4002 4002 z42 (by omega)
      rcases t3 with ⟨t3, _⟩ | ⟨_, t3⟩
      · omega
      · exact ⟨τ, t1, t2, t3⟩
    obtain ⟨τ, t1, t2, t3⟩ := fin
    have sel : (if lg_cmp v 4002 ≤ 0 then mm_repeat_74 (lNn L) v (md_pi (md_pi μ 226 (Int32.ofNat l2.length)) 17 0) else mm_repeat_74 (lNn L) 4002 (md_pi (md_pi μ 226 (Int32.ofNat l2.length)) 17 0)) = mm_repeat_74 (lNn L) 4002 (md_pi (md_pi μ 226 (Int32.ofNat l2.length)) 17 0) := by
      by_cases d : lg_cmp v 4002 ≤ 0
      · have d' := lgc_le.mp d
        rw [L_le, z42] at d'
        have : v = 4002 := by rw [L_eq, z42]; omega
        rw [if_pos d, this]
      · rw [if_neg d]
    rw [sel, t1]
    exact long τ t2 t3
  -- at most 4001 times
  obtain ⟨V, hV⟩ : ∃ V : Nat, v.toInt = V := ⟨v.toInt.toNat, by omega⟩
  have q3 : ¬ 0 < lg_cmp v 4001 := fun q => c3 (by have := lgc_gt.mp q; rw [L_lt, z41] at this; exact this)
  have q4 : lg_cmp v 4002 ≤ 0 := lgc_le.mpr (by rw [L_le, z42]; omega)
  obtain ⟨V', rfl⟩ : ∃ j, V = j + 1 := ⟨V - 1, by omega⟩
  have mm := m_mul (b := l.length + l2.length) hV (by omega) (by omega)
  have tl : (v * Int32.toInt64 (Int32.ofNat l.length + Int32.ofNat l2.length) - Int32.toInt64 (Int32.ofNat l2.length)).toInt = ((rpL l l2 (V' + 1)).length : Nat) := by
    have e2 : (Int32.toInt64 (Int32.ofNat l2.length)).toInt = l2.length := by rw [L_64, tI_lit (by omega)]
    have le : (V' + 1) * (l.length + l2.length) ≤ 4001 * 8000 := Nat.mul_le_mul (by omega) (by omega)
    have le0 : l2.length ≤ (V' + 1) * (l.length + l2.length) := by
      have : 1 * (l.length + l2.length) ≤ (V' + 1) * (l.length + l2.length) := Nat.mul_le_mul (by omega) (Nat.le_refl _)
      omega
    have ex : (V' + 1) * (l.length + l2.length) - l2.length = (rpL l l2 (V' + 1)).length := by
      rw [rp_len, Nat.mul_add, Nat.succ_mul V' l2.length]; omega
    have mm' : (v * Int32.toInt64 (Int32.ofNat (l.length + l2.length))).toInt = (((V' + 1) * (l.length + l2.length) : Nat) : Int) := by
      rw [mm]; rfl
    rw [oN_add, L_sub (by rw [mm', e2]; omega) (by rw [mm', e2]; omega), mm', e2]
    omega
  obtain ⟨τ, t1, t2, t3⟩ := ref (V' + 1) v hV (by omega)
  rw [xx8_repeat_b37, if_neg q1, if_neg q2, if_neg q3, xx8_repeat_b60, if_neg q1, r27, if_pos q4, t1]
  rcases t3 with ⟨t3, t4⟩ | ⟨t3, t4⟩
  · rw [if_pos (lgc_le.mpr (by rw [L_le, tl, z4]; omega))]
    obtain ⟨τ', s1, s2, s3⟩ := rx_lp (N := lNn L) hV (by omega) (by omega) hl hl2 t3 V' 0 (lNn L) σ (by omega) (by omega) (by rw [rsL, if_pos rfl]; exact hasL_nil) x1 x2
    have s1' : xx8_repeat_b102 (lNn L) (Int32.ofNat l.length) v (Int32.ofNat l2.length) σ = xx8_repeat_b184 (lNn L) (Int32.ofNat (rpL l l2 (V' + 1)).length) τ' := s1
    have u2 : m_fr uX σ τ' := mf_mono s3 (fun k hk => by
      simp only [beq_eq_false_iff_ne]
      rintro rfl
      exact absurd hk (by decide))
    have := bytes_L E (LC_u H2 u2 (bK_u t2)) (g := 0) (by decide) (v := 522) (p := 0) (l := rpL l l2 (V' + 1)) vB_522 (by decide) (fun _ => ⟨by omega, s2⟩) t4 (by omega)
    rw [s1', xx8_repeat_b184, mm_repeat_222]
    exact LO_end this (fun z => rfl) (fun z => rfl)
  · rw [if_neg (fun q => by have := lgc_le.mp q; rw [L_le, tl, z4] at this; omega), if_neg q2]
    exact long τ t2 t4
theorem texts_21 {N : Nat} {z : mS} : xx8_texts N z 21 = xx8_repeat N z := show bx (xx8_repeat N z) (fun z7 => xx8_texts_b186 N z7) = xx8_repeat N z from bx_ok
theorem ofs_21 {N : Nat} {z : mS} : mm_ofStrings N z 21 = bd (mm_isText N z 1 21) (fun z12 => bd (mm_unless N z12.2 z12.1) (fun z13 => if sF z13 227 = 0 then bd (mm_isOf N z13 2 2 21) (fun z24 => bd (mm_unless N z24.2 z24.1) (fun z25 => if sF z25 227 = 0 then bd (mm_typeOf N z25 3) (fun z26 => if z26.1 = 0 then mm_ofStrings_221 N z26.2 else bd (mm_isText N z26.2 3 21) (fun z27 => bd (mm_unless N z27.2 z27.1) (fun z28 => mm_ofStrings_221 N z28))) else mm_ofStrings_221 N z25)) else some z13)) := rfl
theorem lib_rep {L : LQ} (E : EVok (lE L)) {w : WD} {σ μ : mS} (H : LC L w 0 σ μ) (hl : lB L = 21) : LO L w (xx8_texts (lNn L) σ 21) (mm_ofStrings (lNn L) μ 21) := by
  have hl' : (21 : Int32) = Int32.ofNat (lB L) := by rw [hl]; rfl
  have hN := EV_N E
  rw [texts_21, ofs_21, xx8_repeat]
  have n221 : ∀ z, mm_ofStrings_221 (lNn L) (md_pi z 227 1) = some (md_pi z 227 1) := fun z => by
    have e : ¬ sF (md_pi z 227 1) 227 = 0 := by simp only [sF_pi, sF_pl, sF_ai, sF_al, sG_pi, sG_pl, sG_ai, sG_al, sI_pi, sI_pl, sI_al, sI_ai1, sI_ai2, sJ_pi, sJ_pl, sJ_ai, sJ_al1, sJ_al2, Nat.reduceEqDiff, if_true, if_false, ne_eq, not_false_eq_true, ite_true, ite_false]; decide
    rw [mm_ofStrings_221, sF_fold, if_neg e, mm_ofStrings_397]
  refine (isText_L E H (i := 1) (v := 520) (by decide) (by decide) hl' (fun z => ⟨md_pi z 227 1, ?_, u227⟩)).elim (fun ⟨a1, a2, a3, a4⟩ => ?_) (fun o => .inr o)
  · simp only [unless_0, bd_so, bx_so, bd_bd, lt, gd_z1, gd_z0, sF_fold, sF_pi, if_true, i10, if_false, ite_true, ite_false]
  obtain ⟨l, τ, τm, len, x1, x2, x3, x4, x5, x6, H1⟩ := text_arg E H (i := 1) (by decide) (by decide) a1 (v := 520) (u := 223) (by omega) (.inl rfl)
  have u5 : m_fr uX σ τ := mf_mono x5 (fun k hk => by
    simp only [beq_eq_false_iff_ne]
    rintro rfl
    exact absurd hk (by decide))
  have H' : LC L w 0 τ μ := LC_u H u5 mf_rfl
  have H2 : LC L w 0 τ (md_pi τm 224 (Int32.ofNat l.length)) := LC_u H1 mf_rfl (mf_pi mf_rfl rfl)
  have fm : m_fr uM μ (md_pi τm 224 (Int32.ofNat l.length)) := mf_tr x6 (mf_pi mf_rfl rfl)
  have bv : bV (md_pi τm 224 (Int32.ofNat l.length)) 2 = bV μ 2 := congrFun (bV_fr fm rfl rfl) 2
  rw [a3 _ _ x1, a4, bx_so, bd_so]
  dsimp only
  rw [unless_1 (L_227 H), bd_so]
  simp only [L_227 H, if_true]
  refine (num_L E H' (i := 2) (by decide) (by decide) hl' (fun z => ⟨md_pi z 227 1, ?_, u227⟩)).elim (fun ⟨n0, n1, n2, n3, n4⟩ => ?_) (fun o => .inr o)
  · dsimp only
    rw [unless_0, bd_so]
    simp only [sF_pi, if_true, i10, if_false, n221]
  have tl := tag_L (N := lNn L) H' (i := 3) (by decide)
  have tm := tag_M (N := lNn L) H' (i := 3) (by decide) (by decide)
  have tt := VV_t (arg_V H' (i := 3) (by decide))
  rw [n3, n4, bx_so, bd_so]
  dsimp only
  rw [unless_1 (L_227 H), bd_so, tl.1, bd_so]
  simp only [L_227 H, if_true]
  rw [tm.1, bd_so]
  dsimp only
  have r221 : mm_ofStrings_221 (lNn L) μ = mm_repeat (lNn L) μ := by
    rw [mm_ofStrings_221, sF_fold, if_pos (L_227 H)]
    exact bd_id
  by_cases c : aT τ 3 = 0
  · have t3 := tag_Mq (N := lNn L) H' fm rfl rfl rfl rfl (i := 3) (by decide) (by decide)
    rw [if_pos c, if_pos (tt.1.mp c), r221, mm_repeat, read_m x2, bd_so, t3.1, bd_so, if_pos (tt.1.mp c)]
    exact rep_fin E len (l2 := []) (by simp) H2 bv (by simp only [sF_pi, sF_pl, sF_ai, sF_al, sG_pi, sG_pl, sG_ai, sG_al, sI_pi, sI_pl, sI_al, sI_ai1, sI_ai2, sJ_pi, sJ_pl, sJ_ai, sJ_al1, sJ_al2, Nat.reduceEqDiff, if_true, if_false, ne_eq, not_false_eq_true, ite_true, ite_false]) x3 hasL_nil x4 hasL_nil
  · rw [if_neg c, if_neg (fun q => c (tt.1.mpr q))]
    refine (isText_L E H' (i := 3) (v := 521) (by decide) (by decide) hl' (fun z => ⟨md_pi z 227 1, ?_, u227⟩)).elim (fun ⟨c1, c2, c3, c4⟩ => ?_) (fun o => .inr o)
    · dsimp only
      rw [unless_0, bd_so, n221]
    obtain ⟨l2, υ, υm, len2, y1, y2, y3, y4, y5, y6, H3⟩ := text_arg E H2 (i := 3) (by decide) (by decide) c1 (v := 521) (u := 225) (by omega) (.inr rfl)
    have y6' := bys_fr (N := lNn L) hN y2
    have t3 := tag_Mq (N := lNn L) H' fm rfl rfl rfl rfl (i := 3) (by decide) (by decide)
    rw [c3 _ _ y1, c4, bx_so, bd_so]
    dsimp only
    rw [unless_1 (L_227 H), bd_so, r221, mm_repeat, read_m x2, bd_so, t3.1, bd_so, if_neg (fun q => c (tt.1.mpr q)), y2, bd_so]
    dsimp only
    refine rep_fin E len len2 H3 ?_ ?_ (by rw [y5.2.2.1 520 rfl]; exact x3) y3 (by rw [y6'.2.2.1 223 rfl]; exact x4) y4
    · rw [bV_fr y6 rfl rfl, bv]
    · rw [mf_F y6' rfl]; simp only [sF_pi, sF_pl, sF_ai, sF_al, sG_pi, sG_pl, sG_ai, sG_al, sI_pi, sI_pl, sI_al, sI_ai1, sI_ai2, sJ_pi, sJ_pl, sJ_ai, sJ_al1, sJ_al2, Nat.reduceEqDiff, if_true, if_false, ne_eq, not_false_eq_true, ite_true, ite_false]
