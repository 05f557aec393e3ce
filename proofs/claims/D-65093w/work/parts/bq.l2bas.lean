/-! LAYER 2: functions of the house: type, rawget, rawset, rawequal, rawlen, pairs, ipairs and its step, getmetatable, setmetatable -/
theorem i10 : ((1 : Int32) = 0) = False := eq_false (by decide)
theorem tyI_cl {tm : Int32} (h0 : 0 ≤ tm) (h1 : tm < 7) : tm.toNatClampNeg = tyI tm := by
  simp only [tyI]
  by_cases c0 : tm = 0
  · subst c0; rfl
  by_cases c1 : tm = 1
  · subst c1; rfl
  by_cases c2 : tm = 2
  · subst c2; rfl
  by_cases c3 : tm = 3
  · subst c3; rfl
  by_cases c4 : tm = 4
  · subst c4; rfl
  by_cases c5 : tm = 5
  · subst c5; rfl
  have : tm = 6 := by lia
  subst this; rfl
theorem VV_tm {w : WD} {tx tm : Int32} {vx vm : Int64} (v : VV w tx vx tm vm) : 0 ≤ tm ∧ tm < 7 := by
  have t := VV_tag v
  have t8 := VV_8 v
  have : tm ≠ 7 := fun h => t8 (t.2.2.2.2.2.2.2.2.2.2.1.mpr h)
  exact ⟨t.2.2.1, by lia⟩
theorem L_227 {L : LQ} {w : WD} {g : Int32} {σ μ : mS} (H : LC L w g σ μ) : sF μ 227 = 0 := H.2.2.1.2.2.2.2.1
theorem lib_type {L : LQ} (E : EVok (lE L)) {w : WD} {σ μ : mS} (H : LC L w 0 σ μ) (hl : lB L = 1) : LO L w (xx8_plain (lNn L) σ 1) (mm_base (lNn L) μ 1) := by
  have hl' : (1 : Int32) = Int32.ofNat (lB L) := by rw [hl]; rfl
  unfold xx8_plain mm_base
  rw [if_neg (by decide), if_pos rfl, if_neg (by decide), if_pos rfl]
  refine (any_L E H (i := 1) hl' (fun z => ⟨md_pi z 227 1, ?_, u227⟩)).elim (fun ⟨n1, a1, a2⟩ => ?_) (fun o => .inr o)
  · simp only [unless_0, bd_so, bx_so, bd_bd, lt, gd_z1, gd_z0, sF_fold, sF_pi, if_true, i10, if_false, ite_true, ite_false, mm_base_465]
  · have v := arg_V' H (i := 1) (by decide) (by lia)
    have tm := VV_tm v
    have t8 := VV_8 v
    have ho := H.1.1.1.2.2.1.2.1 (tyI (bT μ 1)) tyI_lt
    have vs : VV w 4 (Int32.toInt64 (sI σ 393 (Int32.ofNat (tyI (bT μ 1))))) 3 (Int32.toInt64 (sI μ 217 (bT μ 1))) := .inr (.inr (.inr (.inr (.inl ⟨rfl, rfl, _, _, rfl, rfl, .inr (by
      have := @tyI_lt (bT μ 1)
      rw [sI_oN (by omega)]
      simp only [sI]
      rw [tyI_cl tm.1 tm.2]
      exact ho.1)⟩))))
    obtain ⟨τ, τm, b1, b2, b3, _⟩ := give_L (N := lNn L) H (by decide) vs
    have tn := typeName_x (N := lNn L) (σ := σ) v t8
    have e : σ.2.2.1 393 (tyI (bT μ 1)) = sI σ 393 (Int32.ofNat (tyI (bT μ 1))) := (sI_oN (by have := @tyI_lt (bT μ 1); omega)).symm
    rw [e] at tn
    rw [a1, a2]
    simp only [bx_so, bd_so, unless_1 (L_227 H), (tag_L H (i := 1) (by decide)).1, (tag_M H (i := 1) (by decide) (by decide)).1, sF_fold, L_227 H, if_true, tn, xx8_give, b1, gd_in (show (7 : Nat) < 2147483648 by decide) tm.1 tm.2, sI_fold, b2, xx8_plain_b465, mm_base_465]
    exact LO_ok b3
/-- two states, one as the other but for what is given -/
theorem lib_rawget {L : LQ} (E : EVok (lE L)) {w : WD} {σ μ : mS} (H : LC L w 0 σ μ) (hl : lB L = 8) : LO L w (xx8_plain (lNn L) σ 8) (mm_raw (lNn L) μ 8) := by
  have hl' : (8 : Int32) = Int32.ofNat (lB L) := by rw [hl]; rfl
  unfold xx8_plain mm_raw mm_raw_163
  rw [if_neg (by decide), if_neg (by decide), if_neg (by decide), if_neg (by decide), if_neg (by decide), if_neg (by decide), if_neg (by decide), if_neg (by decide), if_pos rfl, if_neg (by decide), if_neg (by decide), if_neg (by decide)]
  refine (tab_L E H (i := 1) (by decide) (by decide) hl' (fun z => ⟨md_pi z 227 1, ?_, u227⟩)).elim (fun ⟨a, b, hab, a1, a2, a3, a4, a5, a6⟩ => ?_) (fun o => .inr o)
  · simp only [unless_0, bd_so, bx_so, bd_bd, lt, gd_z1, gd_z0, sF_fold, sF_pi, if_true, i10, if_false, ite_true, ite_false]
  rw [a5, a6]
  simp only [bx_so, bd_so, unless_1 (L_227 H), sF_fold, L_227 H, if_true, (tag_M H (i := 1) (by decide) (by decide)).2, lt]
  refine (any_L E H (i := 2) hl' (fun z => ⟨md_pi z 227 1, ?_, u227⟩)).elim (fun ⟨n1, c1, c2⟩ => ?_) (fun o => .inr o)
  · simp only [unless_0, bd_so, bx_so, bd_bd, lt, gd_z1, gd_z0, sF_fold, sF_pi, if_true, i10, if_false, ite_true, ite_false, mm_raw_413]
  have v := arg_V' H (i := 2) (by decide) (by lia)
  have t := VV_t v
  rw [c1, c2]
  simp only [bx_so, bd_so, unless_1 (L_227 H), sF_fold, L_227 H, if_true, (tag_L H (i := 2) (by decide)).1, (tag_L H (i := 2) (by decide)).2, (tag_M H (i := 2) (by decide) (by decide)).1, (tag_M H (i := 2) (by decide) (by decide)).2, a4, h_ll]
  by_cases z : aT σ 2 = 0
  · rw [if_pos z, t.1.mp z]
    have g0 : ∀ N b v, mm_get N μ b 0 v = some (gt μ 0 0) := fun N b v => by
      simp (disch := decide) only [mm_get, mm_get_15, mm_get_34, mm_get_54, lt, gd_in, if_pos, if_neg, ↓reduceIte, gd_z0, gd_z1, gd_tt, sF_fold, sG_fold, sI_fold, sJ_fold]; rfl
    have L0 : LC L w 0 σ (gt μ 0 0) := LC_u H mf_rfl gt_u
    obtain ⟨τ, τm, b1, b2, b3, _⟩ := entry_L (N := lNn L) (r := -1) L0 (by decide) (.inl ⟨rfl, rfl, rfl⟩)
    rw [g0]
    simp only [bd_so, sF_fold, sG_fold, gt_42, gt_43, b2, xx8_plain_b201, xx8_plain_b465, b1, bx_so, mm_raw_413]
    exact LO_ok b3
  · rw [if_neg z]
    obtain ⟨r, c, d, d1, d2, d3, d4⟩ := live_L E H hab v z
    obtain ⟨τ, τm, b1, b2, b3, _⟩ := entry_L (N := lNn L) d3 (by decide) d4
    simp only [bd_so, sF_fold, sG_fold, d1, d2, gt_42, gt_43, b2, xx8_plain_b201, xx8_plain_b465, b1, bx_so, mm_raw_413]
    exact LO_ok b3
theorem bx_id {o : Option (Except (Nat × mS) mS)} : bx o (fun z => some (.ok z)) = o := by
  cases o with
  | none => rfl
  | some y => cases y <;> rfl
theorem tx_111 : xtx 111 = mtx 17 := by decide +kernel
theorem gv_any {N : Nat} {z : mS} {g t : Int32} {v : Int64} (h : sF z 190 = g) (g0 : 0 ≤ g) (g1 : g ≤ 101) (t0 : 0 ≤ t) (t1 : t ≤ 8) : ∃ z', mm_giveValue N z t v = some z' ∧ m_fr vM z z' := by
  obtain ⟨z', a1, a2, _⟩ := give1_m (N := N) (v := v) h g0 (by lia) t0 t1
  exact ⟨z', a1, a2⟩
theorem vM_tK {σ τ : mS} (h : m_fr vM σ τ) : m_fr tK σ τ := mf_mono h (fun k hk => by
  simp only [tK, inR, List.contains_cons, List.contains_nil, Bool.or_eq_false_iff, beq_eq_false_iff_ne, Bool.and_eq_false_iff, decide_eq_false_iff_not] at hk
  simp only [vM, List.contains_cons, List.contains_nil, Bool.or_eq_false_iff, beq_eq_false_iff_ne]
  repeat' apply And.intro
  all_goals first | trivial | omega)
theorem lib_rawset {L : LQ} (E : EVok (lE L)) {w : WD} {σ μ : mS} (H : LC L w 0 σ μ) (hl : lB L = 9) : LO L w (xx8_rawSet (lNn L) σ) (mm_raw (lNn L) μ 9) := by
  have hl' : (9 : Int32) = Int32.ofNat (lB L) := by rw [hl]; rfl
  unfold xx8_rawSet mm_raw mm_raw_163
  rw [if_neg (by decide), if_neg (by decide), if_neg (by decide)]
  refine (tab_L E H (i := 1) (by decide) (by decide) hl' (fun z => ⟨md_pi z 227 1, ?_, u227⟩)).elim (fun ⟨a, b, hab, a1, a2, a3, a4, a5, a6⟩ => ?_) (fun o => .inr o)
  · simp only [unless_0, bd_so, bx_so, bd_bd, lt, gd_z1, gd_z0, sF_fold, sF_pi, if_true, i10, if_false, ite_true, ite_false]
  rw [a5, a6]
  simp only [bx_so, bd_so, unless_1 (L_227 H), sF_fold, L_227 H, if_true, (tag_M H (i := 1) (by decide) (by decide)).2, lt]
  rw [a4, h_ll]
  refine (any_L E H (i := 2) hl' (fun z => ⟨md_pi z 227 1, ?_, u227⟩)).elim (fun ⟨n1, c1, c2⟩ => ?_) (fun o => .inr o)
  · simp only [unless_0, bd_so, bx_so, bd_bd, lt, gd_z1, gd_z0, sF_fold, sF_pi, if_true, i10, if_false, ite_true, ite_false, mm_raw_307, mm_raw_308, mm_raw_341, mm_raw_413]
  rw [c1, c2]
  simp only [bx_so, bd_so, i10, if_false]
  refine (any_L E H (i := 3) hl' (fun z => ⟨md_pi z 227 1, ?_, u227⟩)).elim (fun ⟨n2, c3, c4⟩ => ?_) (fun o => .inr o)
  · simp only [unless_0, bd_so, bx_so, bd_bd, lt, gd_z1, gd_z0, sF_fold, sF_pi, if_true, i10, if_false, ite_true, ite_false, mm_raw_307, mm_raw_308, mm_raw_341, mm_raw_413]
  rw [c3, c4]
  have v := arg_V' H (i := 2) (by decide) (by lia)
  have v3 := arg_V' H (i := 3) (by decide) (by lia)
  have t := VV_t v
  simp only [bx_so, bd_so, i10, if_false, mm_raw_308, unless_1 (L_227 H), sF_fold, L_227 H, if_true, (tag_L H (i := 2) (by decide)).1, (tag_L H (i := 2) (by decide)).2, (tag_M H (i := 2) (by decide) (by decide)).1, (tag_M H (i := 2) (by decide) (by decide)).2]
  by_cases z : aT σ 2 = 0
  · rw [if_pos z, if_pos (t.1.mp z)]
    simp only [gd_z1, lt, mm_raw_413, bd_id]
    exact .inr (fault_L E H.1 (by decide) (by decide) tx_111 (by decide +kernel))
  · rw [if_neg z, if_neg (fun q => z (t.1.mpr q))]
    simp only [mm_raw_341, sF_fold, L_227 H, if_true, (tag_L H (i := 3) (by decide)).1, (tag_L H (i := 3) (by decide)).2, (tag_M H (i := 2) (by decide) (by decide)).1, (tag_M H (i := 2) (by decide) (by decide)).2, (tag_M H (i := 3) (by decide) (by decide)).1, (tag_M H (i := 3) (by decide) (by decide)).2, bd_so]
    refine (put_L E H hab v z v3 (fun y y1 y2 _ => ?_)).elim (fun ⟨τ, τm, d1, d2, d3, _⟩ => ?_) (fun o => .inr o)
    · obtain ⟨y', y3, y4⟩ := gv_any (N := lNn L) (t := 4) (v := Int32.toInt64 b) y2 (by decide) (by decide) (by decide) (by decide)
      exact ⟨y', by simp only [y3, bd_so, mm_raw_413], vM_tK y4⟩
    · have vt : VV w 5 (Int32.toInt64 a) 4 (Int32.toInt64 b) := .inr (.inr (.inr (.inr (.inr (.inl ⟨rfl, rfl, _, _, rfl, rfl, hab⟩)))))
      obtain ⟨τ2, τm2, b1, b2, b3, _⟩ := give_L (N := lNn L) d3 (by decide) vt
      rw [d1, d2]
      simp only [bx_so, bd_so, xx8_give, b1, b2, mm_raw_413]
      exact LO_ok b3
theorem zB01 {c : Prop} [Decidable c] {α : Type} {k : Option α} : gd (zB (if c then 1 else 0)) k = k := by
  by_cases h : c
  · rw [if_pos h]; rfl
  · rw [if_neg h]; rfl
