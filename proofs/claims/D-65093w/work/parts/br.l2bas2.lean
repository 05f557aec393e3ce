/-! LAYER 2: functions of the house: rawequal, rawlen, pairs, ipairs and its step, getmetatable, setmetatable -/
theorem VV_z {w : WD} {tx tm : Int32} {vx vm : Int64} (v : VV w tx vx tm vm) (h : tx < 3) : vx = 0 := (VV_tag v).2.2.2.2.2.2.2.2.2.2.2 h
/-- the same value -/
theorem same_2 {N : Nat} (hN : BIG ≤ N) {w : WD} {σ μ : mS} (W : WOK w) (S : RS w σ μ) {tx tm ux um : Int32} {vx vm yx ym : Int64} (v : VV w tx vx tm vm) (u : VV w ux yx um ym) : ∃ r : Int32, xx6_isSame N σ tx vx ux yx = some (r, σ) ∧ mm_isSame N μ tm vm um ym = some (r, μ) ∧ (r = 1 ∨ r = 0) := by
  have gsx : ∀ {t t' : Int32} {k k' : Int64}, VV w t k t' k' → t = 4 → gs σ k.toInt32 := fun q h => (RS_gs S (VV_str q (.inl h))).1
  have gsm : ∀ {t t' : Int32} {k k' : Int64}, VV w t k t' k' → t' = 3 → mgs μ k'.toInt32 := fun q h => (RS_gs S (VV_str q (.inr h))).2
  obtain ⟨r', m1, m2, m3⟩ := isSame_m hN (σ := μ) (t := tm) (ty := um) (gsm v) (gsm u)
  have e := VV_eq W S v u
  have key : ∃ r : Int32, xx6_isSame N σ tx vx ux yx = some (r, σ) ∧ (r = 1 ∨ r = 0) ∧ (r = 1 ↔ k_eq σ tx vx ux yx) := by
    by_cases c : tx = ux
    · subst c
      by_cases d : tx < 3
      · refine ⟨1, ?_, .inl rfl, fun _ => ⟨rfl, ?_⟩, fun _ => rfl⟩
        · simp (disch := lia) only [xx6_isSame, xx6_isSame_b43, xx6_isSame_b48, lt, gd_in, if_pos, if_neg, ↓reduceIte, gd_z0, gd_z1, gd_tt, sF_fold, sG_fold, sI_fold, sJ_fold, d]
        · rw [if_neg (by lia), VV_z v d, VV_z u d]
      · by_cases f : tx = 4
        · have g := gsx v f
          have g' := gsx u f
          obtain ⟨r, r1, r2, r3⟩ := same_x hN g.1 g'.1 g.2.1 g'.2.1 (fun a b q => RS_dst S _ _ a b g g' q)
          refine ⟨r, ?_, r2, r3.trans ⟨fun q => ⟨rfl, by rw [if_pos f]; exact q⟩, fun q => by have := q.2; rw [if_pos f] at this; exact this⟩⟩
          simp (disch := lia) only [xx6_isSame, lt, gd_in, if_pos, if_neg, ↓reduceIte, gd_z0, gd_z1, gd_tt, sF_fold, sG_fold, sI_fold, sJ_fold, d, f, r1, bd_so, xx6_isSame_b47, xx6_isSame_b43, xx6_isSame_b48]
          rcases r2 with r2 | r2
          · rw [r2]; rfl
          · rw [r2]; rfl
        · by_cases g : vx = yx
          · refine ⟨1, ?_, .inl rfl, fun _ => ⟨rfl, by rw [if_neg f]; exact g⟩, fun _ => rfl⟩
            simp (disch := lia) only [xx6_isSame, lt, gd_in, if_pos, if_neg, ↓reduceIte, gd_z0, gd_z1, gd_tt, sF_fold, sG_fold, sI_fold, sJ_fold, d, f, lgc_eq, g, xx6_isSame_b47, xx6_isSame_b43, xx6_isSame_b48]
          · refine ⟨0, ?_, .inr rfl, fun q => absurd q (by decide), fun q => ?_⟩
            · simp (disch := lia) only [xx6_isSame, lt, gd_in, if_pos, if_neg, ↓reduceIte, gd_z0, gd_z1, gd_tt, sF_fold, sG_fold, sI_fold, sJ_fold, d, f, lgc_eq, g, xx6_isSame_b47, xx6_isSame_b43, xx6_isSame_b48]
            · have := q.2
              rw [if_neg f] at this
              exact absurd this g
    · refine ⟨0, ?_, .inr rfl, fun q => absurd q (by decide), fun q => absurd q.1 c⟩
      simp (disch := lia) only [xx6_isSame, lt, gd_in, if_pos, if_neg, ↓reduceIte, gd_z0, gd_z1, gd_tt, sF_fold, sG_fold, sI_fold, sJ_fold, c]
  obtain ⟨r, r1, r2, r3⟩ := key
  have er : r = r' := by
    by_cases z : r = 1
    · rw [z, m3.mpr (e.mp (r3.mp z))]
    · have z' : ¬ r' = 1 := fun q => z (r3.mpr (e.mpr (m3.mp q)))
      rcases r2 with q | q
      · exact absurd q z
      · rcases m2 with q' | q'
        · exact absurd q' z'
        · rw [q, q']
  exact ⟨r, r1, by rw [er]; exact m1, r2⟩
theorem VV_tr {w : WD} {r : Int32} (h : r = 1 ∨ r = 0) : VV w (if r = 0 then 1 else 2) 0 1 (if r = 0 then 0 else 1) := by
  rcases h with rfl | rfl
  · exact .inr (.inr (.inl ⟨rfl, rfl, rfl, rfl⟩))
  · exact .inr (.inl ⟨rfl, rfl, rfl, rfl⟩)
theorem truth_L {N : Nat} {L : LQ} {w : WD} {g r : Int32} {σ μ : mS} (H : LC L w g σ μ) (g1 : g < 100) (h : r = 1 ∨ r = 0) : ∃ τ τm, xx8_giveTruth N σ r = some (.ok τ) ∧ mm_giveValue N μ 1 (if r = 0 then 0 else 1) = some τm ∧ LC L w (g + 1) τ τm := by
  obtain ⟨τ, τm, a1, a2, a3, _⟩ := give_L (N := N) H g1 (VV_tr h)
  refine ⟨τ, τm, ?_, a2, a3⟩
  simp only [xx8_giveTruth, xx8_giveTruth_b13]
  by_cases z : r = 0
  · rw [if_pos z] at a1 ⊢
    rw [a1]; rfl
  · rw [if_neg z] at a1 ⊢
    rw [a1]; rfl
theorem lib_rawequal {L : LQ} (E : EVok (lE L)) {w : WD} {σ μ : mS} (H : LC L w 0 σ μ) (hl : lB L = 10) : LO L w (xx8_plain (lNn L) σ 10) (mm_raw (lNn L) μ 10) := by
  have hl' : (10 : Int32) = Int32.ofNat (lB L) := by rw [hl]; rfl
  unfold xx8_plain mm_raw
  iterate 10 rw [if_neg (by decide)]
  rw [if_pos rfl, if_pos rfl]
  refine (any_L E H (i := 1) hl' (fun z => ⟨md_pi z 227 1, ?_, u227⟩)).elim (fun ⟨n1, c1, c2⟩ => ?_) (fun o => .inr o)
  · simp only [unless_0, bd_so, bx_so, bd_bd, lt, gd_z1, gd_z0, sF_fold, sF_pi, if_true, i10, if_false, ite_true, ite_false, mm_raw_29, mm_raw_30, mm_raw_77]
  rw [c1, c2]
  simp only [bx_so, bd_so, i10, if_false]
  refine (any_L E H (i := 2) hl' (fun z => ⟨md_pi z 227 1, ?_, u227⟩)).elim (fun ⟨n2, c3, c4⟩ => ?_) (fun o => .inr o)
  · simp only [unless_0, bd_so, bx_so, bd_bd, lt, gd_z1, gd_z0, sF_fold, sF_pi, if_true, i10, if_false, ite_true, ite_false, mm_raw_29, mm_raw_30, mm_raw_77]
  rw [c3, c4]
  have v := arg_V' H (i := 1) (by decide) (by lia)
  have v2 := arg_V' H (i := 2) (by decide) (by lia)
  obtain ⟨r, r1, r2, r3⟩ := same_2 (EV_N E) H.1.1.1.1.1.1 H.1.1.1.1.1.2.1 v v2
  obtain ⟨τ, τm, b1, b2, b3⟩ := truth_L (N := lNn L) H (by decide) r3
  have r1' : xx6_isSame (lNn L) σ (aT σ 1) (aV σ 1) (aT σ 2) (aV σ 2) = some (r, σ) := r1
  have r2' : mm_isSame (lNn L) μ (bT μ 1) (bV μ 1) (bT μ 2) (bV μ 2) = some (r, μ) := r2
  simp only [bx_so, bd_so, i10, if_false, mm_raw_30, mm_raw_74, mm_raw_77, unless_1 (L_227 H), sF_fold, L_227 H, if_true, (tag_L H (i := 1) (by decide)).1, (tag_L H (i := 1) (by decide)).2, (tag_M H (i := 1) (by decide) (by decide)).1, (tag_M H (i := 1) (by decide) (by decide)).2, (tag_L H (i := 2) (by decide)).1, (tag_L H (i := 2) (by decide)).2, (tag_M H (i := 2) (by decide) (by decide)).1, (tag_M H (i := 2) (by decide) (by decide)).2, r1', r2', b1, xx8_plain_b465]
  by_cases z : r = 0
  · rw [if_pos z] at b2 ⊢
    simp only [b2, bd_so]
    exact LO_ok b3
  · rw [if_neg z] at b2 ⊢
    simp only [b2, bd_so]
    exact LO_ok b3
/-- a string's length -/
theorem sz_L {L : LQ} {w : WD} {g i : Int32} {σ μ : mS} (H : LC L w g σ μ) (i0 : 1 ≤ i) (h : aT σ i = 4) : ∃ a b, aV σ i = Int32.toInt64 a ∧ bV μ i = Int32.toInt64 b ∧ bT μ i = 3 ∧ ((a, b) ∈ wS w ∨ (a, b) ∈ wX w) ∧ (0 ≤ a ∧ a < 44000) ∧ (0 ≤ b ∧ b < 42000) ∧ sI σ 129 a = sI μ 3 b ∧ 0 ≤ sI σ 129 a ∧ sI σ 129 a ≤ 4000 ∧ x_sv σ a ∧ m_sv μ b ∧ xL σ a = mL μ b := by
  have v := arg_V' H i0 (arg_n H (by rw [h]; decide))
  have t := VV_t v
  rcases v with v | v | v | v | ⟨_, v0, a, b, v1, v2, v3⟩ | v | v | v | v
  case inr.inr.inr.inr.inl =>
    have S := H.1.1.1.1.1.2.1
    have gg := RS_gs S v3
    have sz := (S.2.2.2.2.2.1 a b v3).1
    exact ⟨a, b, v1, v2, v0, v3, ⟨gg.1.1.1, gg.1.1.2.1⟩, ⟨gg.2.1.1, gg.2.1.2.1⟩, sz, gg.1.1.2.2.2.1, H.1.1.1.2.1 a b v3, gg.1.1, gg.2.1, RS_L S v3⟩
  all_goals (obtain ⟨q, _⟩ := v; rw [h] at q; exact absurd q (by decide))
theorem lib_rawlen {L : LQ} (E : EVok (lE L)) {w : WD} {σ μ : mS} (H : LC L w 0 σ μ) (hl : lB L = 11) : LO L w (xx8_plain (lNn L) σ 11) (mm_raw (lNn L) μ 11) := by
  have hl' : (11 : Int32) = Int32.ofNat (lB L) := by rw [hl]; rfl
  unfold xx8_plain mm_raw
  iterate 11 rw [if_neg (by decide)]
  rw [if_pos rfl, if_neg (by decide), if_neg (by decide), if_pos rfl]
  have t := VV_t (arg_V H (i := 1) (by decide))
  simp only [bd_so, (tag_L H (i := 1) (by decide)).1, (tag_M H (i := 1) (by decide) (by decide)).1]
  by_cases z : aT σ 1 = 4
  · obtain ⟨a, b, e1, e2, e3, e4, e5, e6, e7, e8, e9, _⟩ := sz_L H (i := 1) (by decide) z
    have vn : VV w 3 (Int32.toInt64 (sI σ 129 a)) 2 (Int32.toInt64 (sI μ 3 b)) := .inr (.inr (.inr (.inl ⟨rfl, rfl, by rw [e7]⟩)))
    obtain ⟨τ, τm, b1, b2, b3, _⟩ := give_L (N := lNn L) H (by decide) vn
    rw [if_pos z, if_pos e3]
    simp only [bd_so, (tag_L H (i := 1) (by decide)).2, (tag_M H (i := 1) (by decide) (by decide)).2, e1, e2, h_ll, gd_in (show (44000 : Nat) < 2147483648 by decide) e5.1 e5.2, gd_in (show (42000 : Nat) < 2147483648 by decide) e6.1 e6.2, sI_fold, xx8_giveNumber, b1, b2, bx_so, xx8_plain_b465]
    exact LO_ok b3
  · rw [if_neg z, if_neg (fun q => z (t.2.2.1.mpr q))]
    unfold mm_raw_163
    refine (tab_L E H (i := 1) (by decide) (by decide) hl' (fun z => ⟨md_pi z 227 1, ?_, u227⟩)).elim (fun ⟨a, b, hab, a1, a2, a3, a4, a5, a6⟩ => ?_) (fun o => .inr o)
    · simp only [unless_0, bd_so, bx_so, bd_bd, lt, gd_z1, gd_z0, sF_fold, sF_pi, if_true, i10, if_false, ite_true, ite_false]
    obtain ⟨n, τ, τm, o1, o2, n0, n1, L1, fr, frm⟩ := len_L E H hab
    have vn : VV w 3 (Int32.toInt64 n) 2 (Int32.toInt64 n) := .inr (.inr (.inr (.inl ⟨rfl, rfl, rfl⟩)))
    obtain ⟨τ2, τm2, b1, b2, b3, _⟩ := give_L (N := lNn L) L1 (by decide) vn
    rw [a5, a6]
    simp only [bx_so, bd_so, unless_1 (L_227 H), sF_fold, L_227 H, if_true, (tag_M H (i := 1) (by decide) (by decide)).2, lt, a4, h_ll, o1]
    simp only [o2, bd_so, b1, b2, xx8_giveNumber, bx_so, xx8_plain_b465, mm_raw_413]
    exact LO_ok b3
theorem VV_own {w : WD} {b : Int32} (h0 : 0 ≤ b) (h1 : b < 46) : VV w 6 (Int32.toInt64 (-1 - b)) 5 (Int32.toInt64 b) := .inr (.inr (.inr (.inr (.inr (.inr (.inl ⟨rfl, rfl, _, _, rfl, rfl, .inr ⟨h0, h1, rfl⟩⟩))))))
theorem lib_pairs {L : LQ} (E : EVok (lE L)) {w : WD} {σ μ : mS} (H : LC L w 0 σ μ) (hl : lB L = 13) : LO L w (xx8_plain (lNn L) σ 13) (mm_raw (lNn L) μ 13) := by
  have hl' : (13 : Int32) = Int32.ofNat (lB L) := by rw [hl]; rfl
  unfold xx8_plain mm_raw mm_raw_163
  iterate 13 rw [if_neg (by decide)]
  rw [if_pos rfl, if_neg (by decide), if_neg (by decide), if_neg (by decide)]
  refine (tab_L E H (i := 1) (by decide) (by decide) hl' (fun z => ⟨md_pi z 227 1, ?_, u227⟩)).elim (fun ⟨a, b, hab, a1, a2, a3, a4, a5, a6⟩ => ?_) (fun o => .inr o)
  · simp only [unless_0, bd_so, bx_so, bd_bd, lt, gd_z1, gd_z0, sF_fold, sF_pi, if_true, i10, if_false, ite_true, ite_false]
  have vt : VV w 5 (Int32.toInt64 a) 4 (Int32.toInt64 b) := .inr (.inr (.inr (.inr (.inr (.inl ⟨rfl, rfl, _, _, rfl, rfl, hab⟩)))))
  obtain ⟨τ, τm, b1, b2, b3, b4, b5⟩ := give_L (N := lNn L) H (by decide) (VV_own (w := w) (b := 12) (by decide) (by decide))
  obtain ⟨τ2, τm2, c1, c2, c3, _⟩ := give_L (N := lNn L) b3 (by decide) vt
  obtain ⟨τ3, τm3, d1, d2, d3, _⟩ := give_L (N := lNn L) c3 (by decide) VV_nil
  have e1 : Int32.toInt64 (-1 - 12) = -13 := by decide
  have e2 : Int32.toInt64 12 = 12 := by decide
  rw [e1] at b1
  rw [e2] at b2
  rw [a5, a6]
  have tl := (tag_L (N := lNn L) b3 (i := 1) (by decide)).2
  rw [aV_fr b4 rfl rfl, a3] at tl
  simp only [bx_so, bd_so, unless_1 (L_227 H), sF_fold, L_227 H, if_true, (tag_M H (i := 1) (by decide) (by decide)).2, lt, a4, h_ll, xx8_give, xx8_giveNil, b1, tl, c1, d1, xx8_plain_b465]
  simp only [b2, bd_so, c2, d2, mm_raw_413]
  exact LO_ok d3
theorem lib_ipairs {L : LQ} (E : EVok (lE L)) {w : WD} {σ μ : mS} (H : LC L w 0 σ μ) (hl : lB L = 14) : LO L w (xx8_plain (lNn L) σ 14) (mm_raw (lNn L) μ 14) := by
  have hl' : (14 : Int32) = Int32.ofNat (lB L) := by rw [hl]; rfl
  unfold xx8_plain mm_raw
  iterate 14 rw [if_neg (by decide)]
  rw [if_pos rfl, if_neg (by decide), if_pos rfl]
  refine (any_L E H (i := 1) hl' (fun z => ⟨md_pi z 227 1, ?_, u227⟩)).elim (fun ⟨n1, a1, a2⟩ => ?_) (fun o => .inr o)
  · simp only [unless_0, bd_so, bx_so, bd_bd, lt, gd_z1, gd_z0, sF_fold, sF_pi, if_true, i10, if_false, ite_true, ite_false, mm_raw_129]
  have v := arg_V' H (i := 1) (by decide) (by lia)
  obtain ⟨τ, τm, b1, b2, b3, b4, b5⟩ := give_L (N := lNn L) H (by decide) (VV_own (w := w) (b := 45) (by decide) (by decide))
  obtain ⟨τ2, τm2, c1, c2, c3, _⟩ := give_L (N := lNn L) b3 (by decide) v
  have vn : VV w 3 0 2 0 := .inr (.inr (.inr (.inl ⟨rfl, rfl, rfl⟩)))
  obtain ⟨τ3, τm3, d1, d2, d3, _⟩ := give_L (N := lNn L) c3 (by decide) vn
  have e1 : Int32.toInt64 (-1 - 45) = -46 := by decide
  have e2 : Int32.toInt64 45 = 45 := by decide
  rw [e1] at b1
  rw [e2] at b2
  rw [a1, a2]
  have tl := tag_L (N := lNn L) b3 (i := 1) (by decide)
  have tm := tag_M (N := lNn L) b3 (i := 1) (by decide) (by decide)
  rw [aV_fr b4 rfl rfl, aT_fr b4 rfl rfl] at tl
  rw [bV_fr b5 rfl rfl, bT_fr b5 rfl rfl rfl] at tm
  simp only [bx_so, bd_so, unless_1 (L_227 H), sF_fold, L_227 H, if_true, xx8_give, xx8_giveNumber, b1, b2, tl.1, tl.2, tm.1, tm.2, c1, c2, d1, d2, xx8_plain_b465, mm_raw_129]
  exact LO_ok d3
