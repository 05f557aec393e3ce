/-! LAYER 2: functions of the house: string.char, whole -/
theorem chB_s {μ : mS} : ∀ (m i : Nat), chB μ i (m + 1) = chB μ i m ++ [(bV μ (Int32.ofNat (i + m))).toInt32 &&& 255]
  | 0, _ => rfl
  | m + 1, i => by
    have := chB_s (μ := μ) m (i + 1)
    rw [show i + 1 + m = i + (m + 1) from by omega] at this
    rw [chB, this]
    rfl
theorem ch_lp {L : LQ} (E : EVok (lE L)) {w : WD} {μ : mS} (hl : lB L = 20) {nL : Nat} (hn : ln L = Int32.ofNat nL) (n1 : nL ≤ 100) : ∀ (m i n n' : Nat) (σ : mS), 1 ≤ i → i + m = nL + 1 → m + 1 < n → m + 1 < n' → LC L w 0 σ μ → hasL (σ.2.2.1 520) 0 (chB μ 1 (i - 1)) → (∃ τ, xx8_chars_b2 (lNn L) n (Int32.ofNat i) σ = bx (xx8_giveBytes (lNn L) τ 520 0 (Int32.ofNat nL)) (fun z2 => some (.ok z2)) ∧ mm_chars_2 (lNn L) n' 20 (Int32.ofNat i) μ = mm_chars_65 (lNn L) μ ∧ LC L w 0 τ μ ∧ hasL (τ.2.2.1 520) 0 (chB μ 1 nL)) ∨ OEL (α := mS) L w (xx8_chars_b2 (lNn L) n (Int32.ofNat i) σ) (mm_chars_2 (lNn L) n' 20 (Int32.ofNat i) μ) := by
  have hl' : (20 : Int32) = Int32.ofNat (lB L) := by rw [hl]; rfl
  have y0 : (0 : Int64).toInt = 0 := rfl
  intro m
  induction m with
  | zero =>
    intro i n n' σ i1 hi hm hm' H hb
    obtain ⟨n, rfl⟩ : ∃ j, n = j + 1 := ⟨n - 1, by omega⟩
    obtain ⟨n', rfl⟩ : ∃ j, n' = j + 1 := ⟨n' - 1, by omega⟩
    have h399 : sF σ 399 = Int32.ofNat nL := by rw [← hn]; exact H.2.1.1.1
    have h222 : sF μ 222 = Int32.ofNat nL := by rw [← hn]; exact H.2.2.1.2.2.2.1
    have li : Int32.ofNat nL < Int32.ofNat i := (nl_i n1 (by omega)).mpr (by omega)
    refine .inl ⟨σ, ?_, ?_, H, by rw [show i - 1 = nL from by omega] at hb; exact hb⟩
    · rw [xx8_chars_b2, sF_fold, h399, if_pos li]
    · rw [mm_chars_2, sF_fold, h222, if_pos li]
  | succ m ih =>
    intro i n n' σ i1 hi hm hm' H hb
    obtain ⟨n, rfl⟩ : ∃ j, n = j + 1 := ⟨n - 1, by omega⟩
    obtain ⟨n', rfl⟩ : ∃ j, n' = j + 1 := ⟨n' - 1, by omega⟩
    have h399 : sF σ 399 = Int32.ofNat nL := by rw [← hn]; exact H.2.1.1.1
    have h222 : sF μ 222 = Int32.ofNat nL := by rw [← hn]; exact H.2.2.1.2.2.2.1
    have ni : ¬ Int32.ofNat nL < Int32.ofNat i := fun q => by have := (nl_i n1 (by omega)).mp q; omega
    have j0 : (1 : Int32) ≤ Int32.ofNat i := by rw [show (1 : Int32) = Int32.ofNat 1 from rfl, oN_le (by omega) (by omega)]; exact i1
    have j1 : Int32.ofNat i ≤ 150 := by rw [show (150 : Int32) = Int32.ofNat 150 from rfl, oN_le (by omega) (by omega)]; omega
    have tm := tag_M (N := lNn L) H j0 j1
    have tl := tag_L (N := lNn L) H j0
    have tt := VV_t (arg_V H j0)
    obtain ⟨n'', rfl⟩ : ∃ j, n' = j + 1 := ⟨n' - 1, by omega⟩
    have kz : ∀ z, ∃ z', (fun z7 => gd (zB 1) (lt (md_pi z7 227 1) (fun σ8 => mm_chars_59 (lNn L) (mm_chars_2 (lNn L) (n'' + 1)) 20 (Int32.ofNat i) σ8))) z = some z' ∧ m_fr (fun k => k == 227) z z' ∧ sF z' 227 ≠ 0 := fun z => by
      refine ⟨md_pi z 227 1, ?_, u227⟩
      have e227 : ¬ sF (md_pi z 227 1) 227 = 0 := by simp only [sF_pi, sF_pl, sF_ai, sF_al, sG_pi, sG_pl, sG_ai, sG_al, sI_pi, sI_pl, sI_al, sI_ai1, sI_ai2, sJ_pi, sJ_pl, sJ_ai, sJ_al1, sJ_al2, Nat.reduceEqDiff, if_true, if_false, ne_eq, not_false_eq_true, ite_true, ite_false]; decide
      have c65 : mm_chars_65 (lNn L) (md_pi z 227 1) = some (md_pi z 227 1) := by
        rw [mm_chars_65, sF_fold, if_neg e227]; rfl
      show gd (zB 1) (lt (md_pi z 227 1) (fun σ8 => mm_chars_59 (lNn L) (mm_chars_2 (lNn L) (n'' + 1)) 20 (Int32.ofNat i) σ8)) = _
      rw [gd_z1, lt, mm_chars_59, lt, mm_chars_2, c65, sF_fold (σ := md_pi z 227 1) (k := 227), if_neg e227, ite_self]
    have bad : ∀ {α : Type}, OEL (α := α) L w (bx (xx8_bad (lNn L) σ (Int32.ofNat i)) (fun z1 => some (Except.error (z1.1, z1.2)))) (mm_chars_48 (lNn L) (mm_chars_2 (lNn L) (n'' + 1)) 20 (Int32.ofNat i) μ) := fun {α} => bad_L E H hl' kz
    have e227 : sF μ 227 = 0 := L_227 H
    rw [xx8_chars_b2, sF_fold, h399, if_neg ni, mm_chars_2, sF_fold, h222, if_neg ni, sF_fold, if_pos e227, xx8_number, tl.1, tm.1, bd_so, bd_so]
    dsimp only
    by_cases c : aT σ (Int32.ofNat i) = 3
    · have va := arg_V' H j0 (arg_n H (by rw [c]; decide))
      have c' : bT μ (Int32.ofNat i) = 2 := tt.2.1.mp c
      rw [c, c'] at va
      have ev : aV σ (Int32.ofNat i) = bV μ (Int32.ofNat i) := by
        rcases va with q | q | q | q | q | q | q | q | q
        case inr.inr.inr.inl => exact q.2.2
        all_goals (obtain ⟨q, _⟩ := q; exact absurd q (by decide))
      rw [if_pos c, if_pos c', tl.2, tm.2, bd_so, bd_so]
      dsimp only
      rw [bx_so, ev]
      dsimp only
      by_cases d0 : lg_cmp (bV μ (Int32.ofNat i)) 0 < 0
      · rw [if_pos d0, if_pos d0]; exact .inr bad
      · rw [if_neg d0, if_neg d0, tm.2, bd_so]
        dsimp only
        by_cases d1 : lg_cmp (bV μ (Int32.ofNat i)) 255 ≤ 0
        · obtain ⟨k, rfl⟩ : ∃ k, i = k + 1 := ⟨i - 1, by omega⟩
          rw [show k + 1 - 1 = k from by omega] at hb
          obtain ⟨w1, w2, w3⟩ := wr_1 (b := (Int32.toInt8 (bV μ (Int32.ofNat (k + 1))).toInt32).toInt32) vB_520 hb (by rw [chB_len]; omega)
          rw [chB_len, Nat.zero_add] at w1 w2 w3
          rw [nar8] at w2
          have e1 : chB μ 1 (k + 1) = chB μ 1 k ++ [(bV μ (Int32.ofNat (k + 1))).toInt32 &&& 255] := by
            rw [chB_s, show 1 + k = k + 1 from by omega]
          rcases ih (k + 2) n (n'' + 1) _ (by omega) (by omega) (by omega) (by omega) (LC_u H (xw_u w3 (by omega)) mf_rfl) (by rw [show k + 2 - 1 = k + 1 from by omega, e1]; exact w2) with ⟨τ, r1, r2, r3, r4⟩ | o
          · refine .inl ⟨τ, ?_, ?_, r3, r4⟩
            · rw [if_pos d1, on_1, gd_oN (by omega) (by decide), oN_cl (by omega), lt, lt, oN_s]; exact r1
            · rw [if_pos d1, mm_chars_59, lt, oN_s]; exact r2
          · refine .inr ?_
            rw [if_pos d1, if_pos d1, on_1, gd_oN (by omega) (by decide), oN_cl (by omega), lt, lt, oN_s, mm_chars_59, lt, oN_s]
            exact o
        · rw [if_neg d1, if_neg d1]; exact .inr bad
    · have c' : ¬ bT μ (Int32.ofNat i) = 2 := fun q => c (tt.2.1.mpr q)
      rw [if_neg c, if_neg c']
      exact .inr (OEL_bx bad)
theorem texts_20 {N : Nat} {z : mS} : xx8_texts N z 20 = xx8_chars N z := show bx (xx8_chars N z) (fun z9 => xx8_texts_b186 N z9) = xx8_chars N z from bx_ok
theorem ofs_20 {N : Nat} {z : mS} : mm_ofStrings N z 20 = mm_chars N z 20 := show bd (mm_chars N z 20) (fun z38 => some z38) = mm_chars N z 20 from bd_id
theorem lib_char {L : LQ} (E : EVok (lE L)) {w : WD} {σ μ : mS} (H : LC L w 0 σ μ) (hl : lB L = 20) : LO L w (xx8_texts (lNn L) σ 20) (mm_ofStrings (lNn L) μ 20) := by
  have hN := EV_N E
  have n0 : 0 ≤ ln L := H.2.1.1.2.1
  have n1 := H.2.1.2
  have hn : ln L = Int32.ofNat (ln L).toNatClampNeg := (oN_cl' n0).symm
  generalize hnl : (ln L).toNatClampNeg = nL at hn
  have nl31 : nL < 2147483648 := by rw [← hnl, tI_cl]; have := tI_rng (ln L); omega
  have n100 : nL ≤ 100 := by
    rw [hn, show (100 : Int32) = Int32.ofNat 100 from rfl, oN_le (by omega) (by omega)] at n1; exact n1
  have big : 5000 < lNn L := by
    have := hN
    simp only [BIG] at this
    show 5000 < eN (lE L)
    omega
  rw [texts_20, ofs_20, xx8_chars, mm_chars]
  rcases ch_lp E (w := w) (μ := μ) hl hn n100 nL 1 (lNn L) (lNn L) σ (by omega) (by omega) (by omega) (by omega) H hasL_nil with ⟨τ, r1, r2, r3, r4⟩ | o
  · have s1 : xx8_chars_b2 (lNn L) (lNn L) 1 σ = bx (xx8_giveBytes (lNn L) τ 520 0 (Int32.ofNat nL)) (fun z2 => some (.ok z2)) := r1
    have s2 : mm_chars_2 (lNn L) (lNn L) 20 1 μ = mm_chars_65 (lNn L) μ := r2
    obtain ⟨τm, q1, q2, q3⟩ := ch79_m (N := lNn L) H hn n100 nL 1 (lNn L) (md_pi μ 17 0) [] (by omega) (by omega) (by omega) (mf_pi mf_rfl rfl) bufL_0 (by rw [List.length_nil]; omega)
    rw [List.nil_append] at q2
    have q1' : mm_chars_79 (lNn L) (lNn L) 1 (md_pi μ 17 0) = bd (mm_giveMade (lNn L) τm) (fun z1 => mm_chars_107 (lNn L) z1) := q1
    rw [s1, s2, mm_chars_65, sF_fold, if_pos (L_227 H), lt, q1']
    have := bytes_L E (LC_u r3 mf_rfl (bK_u q3)) (by decide) (p := 0) (l := chB μ 1 nL) vB_520 (by decide) (fun _ => ⟨by rw [chB_len]; omega, r4⟩) q2 (by rw [chB_len]; omega)
    rw [chB_len] at this
    exact LO_end this (fun z => rfl) (fun z => rfl)
  · exact .inr o
