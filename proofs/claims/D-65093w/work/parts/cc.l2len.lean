/-! LAYER 2: functions of the house: string.len, and what reads a text -/
theorem isText_L {α : Type} {L : LQ} (E : EVok (lE L)) {w : WD} {g i lib : Int32} {σ μ : mS} (H : LC L w g σ μ) (i0 : 1 ≤ i) (i1 : i ≤ 150) (hl : lib = Int32.ofNat (lB L)) {v : Nat} {f : Int32 × mS → Option (Except (Nat × mS) α)} {k : Int32 × mS → Option mS} (hk : ∀ z, ∃ z', k (0, z) = some z' ∧ m_fr (fun k => k == 227) z z' ∧ sF z' 227 ≠ 0) : ((aT σ i = 3 ∨ aT σ i = 4) ∧ (bT μ i = 2 ∨ bT μ i = 3) ∧ (∀ len τ, xx6_text (lNn L) σ (aT σ i) (aV σ i) v 0 = some (len, τ) → xx8_text (lNn L) σ i v = some (.ok (len, τ))) ∧ mm_isText (lNn L) μ i lib = some (1, μ)) ∨ OEL (α := α) L w (bx (xx8_text (lNn L) σ i v) f) (bd (mm_isText (lNn L) μ i lib) k) := by
  have t := VV_t (arg_V H i0)
  have tl := tag_L (N := lNn L) H i0
  have tm := tag_M (N := lNn L) H i0 i1
  have b24 : ∀ len τ, xx6_text (lNn L) σ (aT σ i) (aV σ i) v 0 = some (len, τ) → xx8_text_b24 (lNn L) i v σ = some (.ok (len, τ)) := fun len τ h => by
    rw [xx8_text_b24, tl.1, bd_so]
    dsimp only
    rw [tl.2, bd_so]
    dsimp only
    rw [h, bd_so]
  by_cases c4 : aT σ i = 4
  · have c' : bT μ i = 3 := t.2.2.1.mp c4
    refine .inl ⟨.inr c4, .inr c', fun len τ h => ?_, ?_⟩
    · rw [xx8_text, tl.1, bd_so]
      dsimp only
      rw [if_pos c4]; exact b24 len τ h
    · rw [mm_isText, tm.1, bd_so]
      dsimp only
      rw [mm_isWritten, if_pos c', mm_isWritten_10, mm_isWritten_15, gd_z1, bd_so]
      dsimp only
      rw [if_neg (by decide), gd_z1]
  · have c4' : ¬ bT μ i = 3 := fun q => c4 (t.2.2.1.mpr q)
    by_cases c3 : aT σ i = 3
    · have c' : bT μ i = 2 := t.2.1.mp c3
      refine .inl ⟨.inl c3, .inl c', fun len τ h => ?_, ?_⟩
      · rw [xx8_text, tl.1, bd_so]
        dsimp only
        rw [if_neg c4, tl.1, bd_so]
        dsimp only
        rw [if_pos c3]; exact b24 len τ h
      · rw [mm_isText, tm.1, bd_so]
        dsimp only
        rw [mm_isWritten, if_neg c4', if_pos c', mm_isWritten_10, mm_isWritten_15, gd_z1, bd_so]
        dsimp only
        rw [if_neg (by decide), gd_z1]
    · have c3' : ¬ bT μ i = 2 := fun q => c3 (t.2.1.mpr q)
      refine .inr ?_
      rw [xx8_text, tl.1, bd_so]
      dsimp only
      rw [if_neg c4, tl.1, bd_so]
      dsimp only
      rw [if_neg c3, mm_isText, tm.1, bd_so]
      dsimp only
      rw [mm_isWritten, if_neg c4', if_neg c3', mm_isWritten_15, gd_z0, bd_so]
      dsimp only
      rw [if_pos rfl, bd_bd]
      refine OEL_bx (bad_L E H hl (fun z => ?_))
      obtain ⟨z', h1, h2⟩ := hk z
      exact ⟨z', by rw [gd_z0, bd_so]; exact h1, h2⟩
theorem read_m {N : Nat} {μ τm : mS} {i len : Int32} (h : mm_bytesOf N μ i 223 = some (len, τm)) : mm_read N μ i = some (md_pi τm 224 len) := by
  rw [mm_read, h, bd_so]; rfl
theorem texts_17 {N : Nat} {z : mS} : xx8_texts N z 17 = bx (xx8_text N z 1 520) (fun z5 => bx (xx8_giveNumber N z5.2 (Int32.toInt64 z5.1)) (fun z6 => xx8_texts_b186 N z6)) := rfl
theorem ofs_17 {N : Nat} {z : mS} : mm_ofStrings N z 17 = bd (mm_isText N z 1 17) (fun z12 => bd (mm_unless N z12.2 z12.1) (fun z13 => if sF z13 227 = 0 then bd (mm_read N z13 1) (fun z16 => bd (mm_giveValue N z16 2 (Int32.toInt64 (sF z16 224))) (fun z17 => mm_ofStrings_397 N z17)) else some z13)) := rfl
theorem lib_len {L : LQ} (E : EVok (lE L)) {w : WD} {σ μ : mS} (H : LC L w 0 σ μ) (hl : lB L = 17) : LO L w (xx8_texts (lNn L) σ 17) (mm_ofStrings (lNn L) μ 17) := by
  have hl' : (17 : Int32) = Int32.ofNat (lB L) := by rw [hl]; rfl
  rw [texts_17, ofs_17]
  refine (isText_L E H (i := 1) (v := 520) (by decide) (by decide) hl' (fun z => ⟨md_pi z 227 1, ?_, u227⟩)).elim (fun ⟨a1, a2, a3, a4⟩ => ?_) (fun o => .inr o)
  · simp only [unless_0, bd_so, bx_so, bd_bd, lt, gd_z1, gd_z0, sF_fold, sF_pi, if_true, i10, if_false, ite_true, ite_false]
  obtain ⟨l, τ, τm, len, x1, x2, x3, x4, x5, x6, H1⟩ := text_arg E H (i := 1) (by decide) (by decide) a1 (v := 520) (u := 223) (by omega) (.inl rfl)
  have H2 : LC L w 0 τ (md_pi τm 224 (Int32.ofNat l.length)) := LC_u H1 mf_rfl (mf_pi mf_rfl rfl)
  have vn : VV w 3 (Int32.toInt64 (Int32.ofNat l.length)) 2 (Int32.toInt64 (Int32.ofNat l.length)) := .inr (.inr (.inr (.inl ⟨rfl, rfl, rfl⟩)))
  obtain ⟨τ', τm', b1, b2, b3, _⟩ := give_L (N := lNn L) H2 (by decide) vn
  have e224 : sF (md_pi τm 224 (Int32.ofNat l.length)) 224 = Int32.ofNat l.length := by simp only [sF_pi, sF_pl, sF_ai, sF_al, sG_pi, sG_pl, sG_ai, sG_al, sI_pi, sI_pl, sI_al, sI_ai1, sI_ai2, sJ_pi, sJ_pl, sJ_ai, sJ_al1, sJ_al2, Nat.reduceEqDiff, if_true, if_false, ne_eq, not_false_eq_true, ite_true, ite_false]
  rw [a3 _ _ x1, a4, bx_so, bd_so]
  dsimp only
  rw [unless_1 (L_227 H), bd_so]
  simp only [L_227 H, if_true]
  rw [read_m x2, bd_so, e224, b2, bd_so, xx8_giveNumber, b1, bx_so, bx_so, xx8_texts_b186, mm_ofStrings_397]
  exact LO_ok b3
