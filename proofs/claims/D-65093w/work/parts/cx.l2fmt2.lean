/-! LAYER 2: functions of the house: string.format, whole -/
/-- behind one place: on, or it is too long -/
theorem fm_on {L : LQ} (E : EVok (lE L)) {w : WD} {l acc t : List Int32} {size v1 i k : Int32} {σ μ : mS} {n n' : Nat} (F : FN L w l acc t size σ μ) (recu : ∀ (acc' : List Int32) (σ' μ' : mS), LC L w 0 σ' μ' → FmT l acc' σ' μ' → LO L w (xx8_format_b17 (lNn L) n v1 (Int32.ofNat acc'.length) i (k + 1) σ') (mm_format_14 (lNn L) (n' + 1) 26 i (k + 1) μ')) : LO L w (xx8_format_b95 (lNn L) (xx8_format_b17 (lNn L) n) v1 size i k σ) (mm_format_190 (lNn L) (mm_format_14 (lNn L) (n' + 1)) 26 i k μ) := by
  obtain ⟨H, T, ⟨f1, f2, f3, f4⟩ | ⟨f1, f2⟩⟩ := F
  · have le : ¬ (4000 : Int32) < Int32.ofNat (acc ++ t).length := fun q => by
      rw [show (4000 : Int32) = Int32.ofNat 4000 from rfl, oN_lt (by omega) (by omega)] at q; omega
    have e17 : sF μ 17 = Int32.ofNat (acc ++ t).length := f4.1
    have tl : mm_tooLong (lNn L) μ = some μ := by
      rw [mm_tooLong, sF_fold, if_pos (L_227 H), sF_fold, e17, if_pos (Int32.not_lt.mp le)]; rfl
    rw [f2, xx8_format_b95, if_pos (Int32.not_lt.mp le), lt, mm_format_190, tl, bd_so, mm_format_194, lt]
    exact recu _ _ _ H ⟨T, f1, f3, f4⟩
  · have e : mm_tooLong (lNn L) μ = mm_fault_2 (lNn L) (md_pi μ 227 1) 30 := by
      rw [mm_tooLong, sF_fold, if_pos (L_227 H), sF_fold, if_neg (Int32.not_le.mpr f2), gd_z1, lt]
      exact bd_id
    rw [xx8_format_b95, if_neg (Int32.not_le.mpr f1), mm_format_190, e]
    refine .inr (fault_L2 E H.1 (t := 109) (tm := 30) (by decide) (by decide) (by decide +kernel) (by decide +kernel) (fun z hz => ?_))
    have h : ¬ sF z 227 = 0 := by rw [hz]; decide
    have t : mm_tooLong (lNn L) z = some z := by rw [mm_tooLong, sF_fold, if_neg h]; rfl
    have := fm_dead (N := lNn L) (n := n') (a := 26) (b := i) (c := k) h
    rw [mm_format_190, t, bd_so] at this
    exact this
theorem bd_rf {α β : Type} {o : Option β} {f g : β → Option α} (h : ∀ z, f z = g z) : bd o f = bd o g := by rw [funext h]
theorem FmT_nx {l acc : List Int32} {σ μ : mS} (F : FmT l acc σ μ) : TT l σ μ := F.1
/-- one argument with a letter -/
theorem fm_num {L : LQ} (E : EVok (lE L)) {w : WD} {l acc : List Int32} {v1 k c m : Int32} {i : Nat} {σ μ : mS} {n n' : Nat} (H : LC L w 0 σ μ) (F : FmT l acc σ μ) (hl' : (26 : Int32) = Int32.ofNat (lB L)) (i0 : 1 ≤ i) (i1 : i ≤ 100) {fs : Int64 × mS → Option (Except (Nat × mS) (Int32 × mS))} (hc : xx8_formatOne (lNn L) σ c (Int32.ofNat (i + 1)) (Int32.ofNat acc.length) = bx (xx8_number (lNn L) σ (Int32.ofNat (i + 1))) fs) (c37 : c ≠ 37) (one : ∀ v, ∃ size τ μ1 t, fs (v, σ) = some (.ok (size, τ)) ∧ mm_putAs (lNn L) μ m v = some μ1 ∧ FN L w l acc t size τ μ1) (recu : i + 1 ≤ 100 → ∀ (acc' : List Int32) (σ' μ' : mS), LC L w 0 σ' μ' → FmT l acc' σ' μ' → LO L w (xx8_format_b17 (lNn L) n v1 (Int32.ofNat acc'.length) (Int32.ofNat (i + 1)) (k + 1) σ') (mm_format_14 (lNn L) (n' + 1) 26 (Int32.ofNat (i + 1)) (k + 1) μ')) : LO L w (xx8_format_b74 (lNn L) (xx8_format_b17 (lNn L) n) v1 (Int32.ofNat acc.length) (Int32.ofNat i) k c σ) (mm_format_108 (lNn L) (mm_format_14 (lNn L) (n' + 1)) 26 (Int32.ofNat i) k m μ) := by
  have j0 : (1 : Int32) ≤ Int32.ofNat (i + 1) := by rw [show (1 : Int32) = Int32.ofNat 1 from rfl, oN_le (by omega) (by omega)]; omega
  have j1 : Int32.ofNat (i + 1) ≤ 150 := by rw [show (150 : Int32) = Int32.ofNat 150 from rfl, oN_le (by omega) (by omega)]; omega
  rw [xx8_format_b74, if_neg c37, lt, oN_s, xx8_format_b86, hc, bx_bx, mm_format_108, lt, oN_s]
  refine (num_L E H j0 j1 hl' (fun z => ⟨md_pi z 227 1, ?_, u227⟩)).elim (fun ⟨n0, n1, n2, n3, n4⟩ => ?_) (fun o => .inr o)
  · dsimp only
    rw [unless_0, bd_so, sF_fold, if_neg u227', fm_dead u227']
  obtain ⟨size, τ, μ1, t, o1, o2, o3⟩ := one (bV μ (Int32.ofNat (i + 1)))
  have tm := tag_M (N := lNn L) H j0 j1
  have ni : i + 1 ≤ 100 := by
    have h := arg_n H (i := Int32.ofNat (i + 1)) (by rw [n0]; decide)
    have l100 : ln L ≤ 100 := H.2.1.2
    have : Int32.ofNat (i + 1) ≤ 100 := Int32.le_trans (Int32.not_lt.mp h) l100
    rw [show (100 : Int32) = Int32.ofNat 100 from rfl, oN_le (by omega) (by omega)] at this
    exact this
  rw [n3, n4, bx_so, bd_so]
  dsimp only
  rw [unless_1 (L_227 H), bd_so, sF_fold, if_pos (L_227 H), tm.2, bd_so]
  dsimp only
  rw [o1, o2, bx_so, bd_so]
  exact fm_on E o3 (recu ni)
theorem fo_99 {N : Nat} {z : mS} {i s : Int32} : xx8_formatOne N z 99 i s = bx (xx8_number N z i) (fun z4 => gd (inB 0 4200) (lt (md_ai z4.2 522 (0 : Int32).toNatClampNeg (vp_nar .byte (z4.1.toInt32.toInt8.toInt32))) (fun σ5 => xx8_formatOne_b155 N s 1 σ5))) := rfl
theorem fo_100 {N : Nat} {z : mS} {i s : Int32} : xx8_formatOne N z 100 i s = bx (xx8_number N z i) (fun z6 => bd (xx6_digits N z6.2 z6.1 522 0) (fun z7 => xx8_formatOne_b155 N s z7.1 z7.2)) := rfl
theorem fo_115 {N : Nat} {z : mS} {i s : Int32} : xx8_formatOne N z 115 i s = bx (xx8_any N z i) (fun z8 => bd (xx8_tag N z8 i) (fun z9 => bd (xx8_value N z9.2 i) (fun z10 => bd (xx8_textOf N z10.2 z9.1 z10.1 522 0) (fun z11 => xx8_formatOne_b155 N s z11.1 z11.2)))) := rfl
theorem fo_120 {N : Nat} {z : mS} {i s : Int32} : xx8_formatOne N z 120 i s = bx (xx8_number N z i) (fun z12 => bd (xx8_hex N z12.2 z12.1) (fun z13 => xx8_formatOne_b155 N s z13.1 z13.2)) := rfl
theorem fo_37 {N : Nat} {z : mS} {i s : Int32} : xx8_formatOne N z 37 i s = gd (inB s 4200) (lt (md_ai z 521 s.toNatClampNeg (vp_nar .byte 37)) (fun σ3 => some (Except.ok (s + 1, σ3)))) := rfl
theorem fo_no {N : Nat} {z : mS} {c i s : Int32} (h1 : c ≠ 37) (h2 : c ≠ 99) (h3 : c ≠ 100) (h4 : c ≠ 115) (h5 : c ≠ 120) : xx8_formatOne N z c i s = bx (xx6_fault N z (3000 + 115)) (fun z2 => some (Except.error (z2.1, z2.2))) := by
  rw [xx8_formatOne, if_neg h1, if_neg h2, if_neg h3, if_neg h4, if_neg h5]
/-- one byte on both sides -/
theorem fm_one {L : LQ} {w : WD} {l acc : List Int32} {σ μ : mS} (H : LC L w 0 σ μ) (F : FmT l acc σ μ) {b c : Int32} : ∃ τ μ1, (gd (inB (Int32.ofNat acc.length) 4200) (some (md_ai σ 521 acc.length (vp_nar .byte b))) = some τ) ∧ τ = md_ai σ 521 acc.length (vp_nar .byte b) ∧ mm_put (lNn L) μ c = some μ1 ∧ (b &&& 255 = c &&& 255 → FN L w l acc [c &&& 255] (Int32.ofNat (acc.length + 1)) τ μ1) := by
  obtain ⟨T, ha, h521, hb⟩ := F
  obtain ⟨w1, w2, w3⟩ := wr_1 (b := b) vB_521 h521 (by omega)
  rw [Nat.zero_add] at w2 w3
  obtain ⟨μ1, b1, b2, b3⟩ := put_m (N := lNn L) (b := c) hb (by omega)
  refine ⟨_, μ1, by rw [gd_oN (by omega) (by decide)], rfl, b1, fun e => ?_⟩
  rw [e] at w2
  have u : m_fr uX σ (md_ai σ 521 acc.length (vp_nar .byte b)) := mf_ai mf_rfl rfl
  have H1 : LC L w 0 (md_ai σ 521 acc.length (vp_nar .byte b)) μ1 := LC_u H u (bK_u b3)
  have T1 : TT l (md_ai σ 521 acc.length (vp_nar .byte b)) μ1 := TT_fr T w3.1 b3 rfl rfl rfl
  have ln : (acc ++ [c &&& 255]).length = acc.length + 1 := by rw [List.length_append]; rfl
  refine ⟨H1, T1, ?_⟩
  by_cases q : acc.length + 1 ≤ 4000
  · exact .inl ⟨by omega, by rw [ln], w2, b2⟩
  · have e17 : sF μ1 17 = Int32.ofNat (acc ++ [c &&& 255]).length := b2.1
    refine .inr ⟨?_, ?_⟩
    · rw [show (4000 : Int32) = Int32.ofNat 4000 from rfl, oN_lt (by omega) (by omega)]; omega
    · rw [e17, ln, show (4000 : Int32) = Int32.ofNat 4000 from rfl, oN_lt (by omega) (by omega)]; omega
theorem fm_lp {L : LQ} (E : EVok (lE L)) {w : WD} {l : List Int32} (hl' : (26 : Int32) = Int32.ofNat (lB L)) : ∀ (c k i n n' : Nat) (acc : List Int32) (σ μ : mS), k + c = l.length → c < n → c + 1 < n' → 1 ≤ i → i ≤ 100 → LC L w 0 σ μ → FmT l acc σ μ → LO L w (xx8_format_b17 (lNn L) n (Int32.ofNat l.length) (Int32.ofNat acc.length) (Int32.ofNat i) (Int32.ofNat k) σ) (mm_format_14 (lNn L) n' 26 (Int32.ofNat i) (Int32.ofNat k) μ) := by
  have big : 10000 < lNn L := by
    have := EV_N E
    simp only [BIG] at this
    show 10000 < eN (lE L)
    omega
  intro c
  induction c using Nat.strongRecOn with
  | _ c ih =>
    intro k i n n' acc σ μ hk hn hn' i0 i1 H F
    obtain ⟨n, rfl⟩ : ∃ j, n = j + 1 := ⟨n - 1, by omega⟩
    obtain ⟨n', rfl⟩ : ∃ j, n' = j + 1 := ⟨n' - 1, by omega⟩
    obtain ⟨n', rfl⟩ : ∃ j, n' = j + 1 := ⟨n' - 1, by omega⟩
    have T := F.1
    have ha : acc.length ≤ 4000 := F.2.1
    have l4 := T.1
    have e224 := T.2.2.2.1
    by_cases c0 : c = 0
    · have := bytes_L E H (g := 0) (by decide) (v := 521) (p := 0) (l := acc) vB_521 (by decide) (fun _ => ⟨by omega, F.2.2.1⟩) F.2.2.2 (by omega)
      rw [xx8_format_b17, if_pos (by rw [oN_le (by omega) (by omega)]; omega), mm_format_14, sF_fold, e224, if_pos (by rw [oN_le (by omega) (by omega)]; omega), mm_format_200, sF_fold, if_pos (L_227 H)]
      exact LO_end this (fun z => rfl) (fun z => rfl)
    obtain ⟨b1, b2⟩ := TT_x T (k := k) (by omega)
    obtain ⟨d1, d2⟩ := TT_m T (k := k) (by omega)
    have e37 := litB (b := 37) b1 (by decide) b2 (by decide)
    rw [xx8_format_b17, if_neg (oN_nle (by omega) (by omega)), gd_oN (by omega) (by decide), oN_cl (a := k) (by omega), mm_format_14, sF_fold, e224, if_neg (oN_nle (by omega) (by omega)), sF_fold, if_pos (L_227 H), gd_oN (by omega) (by decide), oN_cl (a := k) (by omega), d2, show ∀ f : Int32 → Option mS, lt (l.getD k 0) f = f (l.getD k 0) from fun _ => rfl]
    by_cases q : l.getD k 0 = 37
    · rw [if_pos (e37.mpr q), if_pos q, lt, lt, oN_s, at_m T (by omega), bd_so]
      dsimp only
      -- on behind two places
      have rec2 : k + 1 < l.length → ∀ i', 1 ≤ i' → i' ≤ 100 → ∀ (acc' : List Int32) (σ' μ' : mS), LC L w 0 σ' μ' → FmT l acc' σ' μ' → LO L w (xx8_format_b17 (lNn L) n (Int32.ofNat l.length) (Int32.ofNat acc'.length) (Int32.ofNat i') (Int32.ofNat (k + 1) + 1) σ') (mm_format_14 (lNn L) (n' + 1) 26 (Int32.ofNat i') (Int32.ofNat (k + 1) + 1) μ') := fun hk1 i' j0 j1 acc' σ' μ' H' F' => by
        rw [oN_s]
        exact ih (c - 2) (by omega) (k + 2) i' n (n' + 1) acc' σ' μ' (by omega) (by omega) (by omega) j0 j1 H' F'
      -- no letter that is known
      have no : ∀ cx : Int32, cx ≠ 37 → cx ≠ 99 → cx ≠ 100 → cx ≠ 115 → cx ≠ 120 → LO L w (xx8_format_b74 (lNn L) (xx8_format_b17 (lNn L) n) (Int32.ofNat l.length) (Int32.ofNat acc.length) (Int32.ofNat i) (Int32.ofNat (k + 1)) cx σ) (gd (zB 1) (lt (md_pi μ 227 1) (fun σ12 => bd (mm_fault_2 (lNn L) σ12 40) (fun z13 => mm_format_190 (lNn L) (mm_format_14 (lNn L) (n' + 1)) 26 (Int32.ofNat i) (Int32.ofNat (k + 1)) z13)))) := fun cx h1 h2 h3 h4 h5 => by
        rw [xx8_format_b74, if_neg h1, lt, xx8_format_b86, fo_no h1 h2 h3 h4 h5, gd_z1, lt]
        refine .inr (OEL_bx (fault_L2 E H.1 (t := 115) (tm := 40) (by decide) (by decide) (by decide +kernel) (by decide +kernel) (fun z hz => ?_)))
        exact fm_dead (by rw [hz]; decide)
      by_cases k1 : k + 1 < l.length
      · obtain ⟨g1, g2⟩ := TT_x T k1
        have f37 := litB (b := 37) g1 (by decide) g2 (by decide)
        have f99 := litB (b := 99) g1 (by decide) g2 (by decide)
        have f100 := litB (b := 100) g1 (by decide) g2 (by decide)
        have f115 := litB (b := 115) g1 (by decide) g2 (by decide)
        have f120 := litB (b := 120) g1 (by decide) g2 (by decide)
        rw [if_neg (oN_nle (by omega) k1), gd_oN (by omega) (by decide), oN_cl (by omega), at_i k1]
        generalize σ.2.2.1 520 (k + 1) = cx at *
        generalize l.getD (k + 1) 0 = y at *
        by_cases y37 : y = 37
        · have := f37.mpr y37
          subst this y37
          obtain ⟨τ, μ1, o1, o2, o3, o4⟩ := fm_one H F (b := 37) (c := 37)
          rw [if_pos rfl, xx8_format_b74, if_pos rfl, xx8_format_b86, fo_37, gd_oN (by omega) (by decide), oN_cl (by omega), lt, ← o2, bx_so, o3, bd_so, oN_s]
          exact fm_on E (o4 rfl) (rec2 k1 i i0 i1)
        rw [if_neg y37]
        by_cases y100 : y = 100
        · have := f100.mpr y100
          subst this y100
          rw [if_pos rfl]
          exact fm_num E H F hl' i0 i1 fo_100 (by decide) (fun v => fo_num E H F big v) (fun j1 => rec2 k1 (i + 1) (by omega) j1)
        rw [if_neg y100]
        by_cases y120 : y = 120
        · have := f120.mpr y120
          subst this y120
          rw [if_pos rfl]
          exact fm_num E H F hl' i0 i1 fo_120 (by decide) (fun v => fo_hex H F big v) (fun j1 => rec2 k1 (i + 1) (by omega) j1)
        rw [if_neg y120]
        by_cases y99 : y = 99
        · have := f99.mpr y99
          subst this y99
          rw [if_pos rfl]
          exact fm_num E H F hl' i0 i1 fo_99 (by decide) (fun v => fo_byte H F v) (fun j1 => rec2 k1 (i + 1) (by omega) j1)
        rw [if_neg y99]
        by_cases y115 : y = 115
        · have := f115.mpr y115
          subst this y115
          have j0 : (1 : Int32) ≤ Int32.ofNat (i + 1) := by rw [show (1 : Int32) = Int32.ofNat 1 from rfl, oN_le (by omega) (by omega)]; omega
          have j1 : Int32.ofNat (i + 1) ≤ 150 := by rw [show (150 : Int32) = Int32.ofNat 150 from rfl, oN_le (by omega) (by omega)]; omega
          rw [if_pos rfl, xx8_format_b74, if_neg (show ¬ (115 : Int32) = 37 by decide), lt, lt, oN_s, xx8_format_b86, fo_115, bx_bx]
          refine (any_L E H (i := Int32.ofNat (i + 1)) hl' (fun z => ⟨md_pi z 227 1, ?_, u227⟩)).elim (fun ⟨n1, a1, a2⟩ => ?_) (fun o => .inr o)
          · dsimp only
            rw [unless_0, bd_so, sF_fold, if_neg u227', fm_dead u227']
          have ni : i + 1 ≤ 100 := by
            have l100 : ln L ≤ 100 := H.2.1.2
            have : Int32.ofNat (i + 1) ≤ 100 := Int32.le_trans n1 l100
            rw [show (100 : Int32) = Int32.ofNat 100 from rfl, oN_le (by omega) (by omega)] at this
            exact this
          have tl := tag_L (N := lNn L) H j0
          obtain ⟨size, τ, μ1, t, o1, o2, o3⟩ := fo_val E H F j0 j1 (Int32.not_lt.mpr n1)
          rw [a1, a2, bx_so, bd_so, tl.1, bd_so]
          dsimp only
          rw [tl.2, bd_so]
          dsimp only
          rw [o1, bx_so, unless_1 (L_227 H), bd_so, sF_fold, if_pos (L_227 H), o2, bd_so]
          exact fm_on E o3 (rec2 k1 (i + 1) (by omega) ni)
        rw [if_neg y115]
        exact no cx (fun h => y37 (f37.mp h)) (fun h => y99 (f99.mp h)) (fun h => y100 (f100.mp h)) (fun h => y115 (f115.mp h)) (fun h => y120 (f120.mp h))
      · have e : atL l (k + 1) = -1 := by rw [atL, if_neg k1]
        rw [if_pos (by rw [oN_le (by omega) (by omega)]; omega), e, if_neg (show ¬ (-1 : Int32) = 37 by decide), if_neg (show ¬ (-1 : Int32) = 100 by decide), if_neg (show ¬ (-1 : Int32) = 120 by decide), if_neg (show ¬ (-1 : Int32) = 99 by decide), if_neg (show ¬ (-1 : Int32) = 115 by decide)]
        exact no 0 (by decide) (by decide) (by decide) (by decide) (by decide)
    · obtain ⟨τ, μ1, o1, o2, o3, o4⟩ := fm_one H F (b := σ.2.2.1 520 k) (c := l.getD k 0)
      have ey : σ.2.2.1 520 k &&& 255 = l.getD k 0 &&& 255 := by rw [← b2, b_255x]
      have e190 : bd (mm_tooLong (lNn L) μ1) (fun z20 => mm_format_194 (lNn L) (mm_format_14 (lNn L) (n' + 1)) 26 (Int32.ofNat i) (Int32.ofNat k) z20) = mm_format_190 (lNn L) (mm_format_14 (lNn L) (n' + 1)) 26 (Int32.ofNat i) (Int32.ofNat k) μ1 := rfl
      rw [if_neg (fun h => q (e37.mp h)), if_neg q, lt, gd_oN (by omega) (by decide), gd_oN (by omega) (by decide), oN_cl (a := acc.length) (by omega), lt, ← o2, o3, bd_so, oN_s, e190]
      refine fm_on E (o4 ey) (fun acc' σ' μ' H' F' => ?_)
      rw [oN_s]
      exact ih (c - 1) (by omega) (k + 1) i n (n' + 1) acc' σ' μ' (by omega) (by omega) (by omega) i0 i1 H' F'
theorem texts_26 {N : Nat} {z : mS} : xx8_texts N z 26 = xx8_format N z := show bx (xx8_format N z) (fun z7 => xx8_texts_b186 N z7) = xx8_format N z from bx_ok
theorem ofs_26 {N : Nat} {z : mS} : mm_ofStrings N z 26 = bd (mm_isText N z 1 26) (fun z12 => bd (mm_unless N z12.2 z12.1) (fun z13 => if sF z13 227 = 0 then bd (mm_format N z13 26) (fun z37 => mm_ofStrings_397 N z37) else some z13)) := rfl
theorem lib_format {L : LQ} (E : EVok (lE L)) {w : WD} {σ μ : mS} (H : LC L w 0 σ μ) (hl : lB L = 26) : LO L w (xx8_texts (lNn L) σ 26) (mm_ofStrings (lNn L) μ 26) := by
  have hl' : (26 : Int32) = Int32.ofNat (lB L) := by rw [hl]; rfl
  have big : 10000 < lNn L := by
    have := EV_N E
    simp only [BIG] at this
    show 10000 < eN (lE L)
    omega
  rw [texts_26, ofs_26, xx8_format]
  refine (isText_L E H (i := 1) (v := 520) (by decide) (by decide) hl' (fun z => ⟨md_pi z 227 1, ?_, u227⟩)).elim (fun ⟨a1, a2, a3, a4⟩ => ?_) (fun o => .inr o)
  · simp only [unless_0, bd_so, bx_so, bd_bd, lt, gd_z1, gd_z0, sF_fold, sF_pi, if_true, i10, if_false, ite_true, ite_false]
  obtain ⟨l, τ, τm, len, x1, x2, x3, x4, x5, x6, H1, x7, x8⟩ := text_argB E H (i := 1) (by decide) (by decide) a1 (v := 520) (u := 223) (by omega) (.inl rfl)
  have H2 : LC L w 0 τ (md_pi (md_pi τm 224 (Int32.ofNat l.length)) 17 0) := LC_u H1 mf_rfl (mf_pi (mf_pi mf_rfl rfl) rfl)
  rw [a3 _ _ x1, a4, bx_so, bd_so]
  dsimp only
  rw [unless_1 (L_227 H), bd_so]
  simp only [L_227 H, if_true]
  rw [show (fun z37 => mm_ofStrings_397 (lNn L) z37) = fun z37 => some z37 from rfl, bd_id, mm_format, read_m x2, bd_so, lt]
  exact fm_lp E hl' l.length 0 1 (lNn L) (lNn L) [] τ _ (by omega) (by omega) (by omega) (by omega) (by omega) H2 ⟨⟨len, x3, x7, by simp only [sF_pi, sF_pl, sF_ai, sF_al, sG_pi, sG_pl, sG_ai, sG_al, sI_pi, sI_pl, sI_al, sI_ai1, sI_ai2, sJ_pi, sJ_pl, sJ_ai, sJ_al1, sJ_al2, Nat.reduceEqDiff, if_true, if_false, ne_eq, not_false_eq_true, ite_true, ite_false], x4, x8⟩, by simp, hasL_nil, bufL_0⟩
