/-! LAYER 2: functions of the house: setmetatable, assert, select -/
theorem tx_113 : xtx 113 = mtx 39 := by decide +kernel
theorem tx_110 : xtx 110 = mtx 37 := by decide +kernel
theorem tx_112 : xtx 112 = mtx 38 := by decide +kernel
theorem tx_109 : xtx 109 = mtx 30 := by decide +kernel
theorem mtl : (mtx 39).length ≤ 100 ∧ (mtx 37).length ≤ 100 ∧ (mtx 38).length ≤ 100 ∧ (mtx 30).length ≤ 100 ∧ (mtx 17).length ≤ 100 ∧ (mtx 8).length ≤ 100 := by decide +kernel
theorem RT_fr0 {P Q : Nat → Bool} {w w' : WD} {σ μ τ τm : mS} {es es' : Int32 → List Int32} (R : RT w σ μ es es') (wl : wle w w') (wt : wT w' = wT w) (fr : m_fr P σ τ) (frm : m_fr Q μ τm) (hp : ∀ k, (128 ≤ k ∧ k ≤ 142) ∨ (196 ≤ k ∧ k ≤ 221) → P k = false) (hq : ∀ k, (2 ≤ k ∧ k ≤ 10) ∨ k = 19 ∨ (21 ≤ k ∧ k ≤ 41) → Q k = false) (hm : ∀ a b, (a, b) ∈ wT w → (sI τ 195 a = -1 ∧ sI τm 20 b = -1) ∨ (sI τ 195 a, sI τm 20 b) ∈ wT w) : RT w' τ τm es es' := by
  obtain ⟨⟨ps, hs', ff, fh, M⟩, ⟨ft, T⟩, ⟨ps', MM'⟩, T', E⟩ := R
  have tx : tX w' = tX w := by simp only [tX, wt]
  have tm : tM w' = tM w := by simp only [tM, wt]
  have p : ∀ k, 196 ≤ k → k ≤ 221 → P k = false := fun k a b => hp k (.inr ⟨a, b⟩)
  have q : ∀ k, 21 ≤ k → k ≤ 41 → Q k = false := fun k a b => hq k (.inr (.inr ⟨a, b⟩))
  have ps6 : P 128 = false ∧ P 129 = false ∧ P 130 = false ∧ P 131 = false ∧ P 132 = false ∧ P 134 = false := ⟨hp _ (.inl (by decide)), hp _ (.inl (by decide)), hp _ (.inl (by decide)), hp _ (.inl (by decide)), hp _ (.inl (by decide)), hp _ (.inl (by decide))⟩
  have qs5 : Q 2 = false ∧ Q 3 = false ∧ Q 4 = false ∧ Q 7 = false ∧ Q 10 = false := ⟨hq _ (.inl (by decide)), hq _ (.inl (by decide)), hq _ (.inl (by decide)), hq _ (.inl (by decide)), hq _ (.inl (by decide))⟩
  simp only [RT]
  rw [tx, tm, wt]
  refine ⟨⟨ps, hs', ff, fh, mf_FX2 fr ps6 ⟨p _ (by decide) (by decide), p _ (by decide) (by decide), p _ (by decide) (by decide), p _ (by decide) (by decide), p _ (by decide) (by decide)⟩ M.1, mf_HS fr ⟨p _ (by decide) (by decide), p _ (by decide) (by decide), p _ (by decide) (by decide), p _ (by decide) (by decide), p _ (by decide) (by decide), p _ (by decide) (by decide), p _ (by decide) (by decide), p _ (by decide) (by decide), p _ (by decide) (by decide)⟩ M.2.1, fun t ht => mf_HB fr (p _ (by decide) (by decide)) (p _ (by decide) (by decide)) (p _ (by decide) (by decide)) (p _ (by decide) (by decide)) (mf_I fr (p _ (by decide) (by decide))) (M.2.2.1 t ht), mf_EX fr ⟨p _ (by decide) (by decide), p _ (by decide) (by decide), p _ (by decide) (by decide), p _ (by decide) (by decide), p _ (by decide) (by decide), p _ (by decide) (by decide), p _ (by decide) (by decide), p _ (by decide) (by decide)⟩ M.2.2.2⟩, ⟨ft, ?_⟩, ⟨ps', mf_FM frm qs5 ⟨q _ (by decide) (by decide), q _ (by decide) (by decide), q _ (by decide) (by decide), q _ (by decide) (by decide), q _ (by decide) (by decide)⟩ MM'.1, fun t ht => ?_, mf_EM frm ⟨q _ (by decide) (by decide), q _ (by decide) (by decide), q _ (by decide) (by decide), q _ (by decide) (by decide), q _ (by decide) (by decide), q _ (by decide) (by decide), q _ (by decide) (by decide), q _ (by decide) (by decide), q _ (by decide) (by decide)⟩ MM'.2.2⟩, ?_, fun a b hab => ⟨?_, ?_, ?_⟩⟩
  · have i209 : sI τ 209 = sI σ 209 := by funext m; exact mf_I fr (p _ (by decide) (by decide))
    simp only [FT, i209, mf_F fr (p 210 (by decide) (by decide)), mf_F fr (p 211 (by decide) (by decide))]; exact T
  · have h := MM'.2.1 t ht
    have imh : mh τm t = mh μ t := by funext i; exact mf_I frm (q _ (by decide) (by decide))
    simp only [HM] at h ⊢
    rw [mf_I frm (q _ (by decide) (by decide)), mf_I frm (q _ (by decide) (by decide)), imh]
    exact hm_mv (fun k => mf_mlv frm (q _ (by decide) (by decide)) (q _ (by decide) (by decide)) (q _ (by decide) (by decide))) h
  · have i28 : sI τm 28 = sI μ 28 := by funext m; exact mf_I frm (q _ (by decide) (by decide))
    simp only [FTm, i28, mf_F frm (q 29 (by decide) (by decide)), mf_F frm (q 30 (by decide) (by decide))]; exact T'
  · refine F2_mono (E a b hab).1 (fun x y _ _ r => ?_)
    obtain ⟨r1, r2, r3, r4⟩ := r
    have i212 : sI τ 212 x = sI σ 212 x := mf_I fr (p _ (by decide) (by decide))
    have i214 : sI τ 214 x = sI σ 214 x := mf_I fr (p _ (by decide) (by decide))
    have j213 : sJ τ 213 x = sJ σ 213 x := mf_J fr (p _ (by decide) (by decide))
    have j215 : sJ τ 215 x = sJ σ 215 x := mf_J fr (p _ (by decide) (by decide))
    have i32 : sI τm 32 y = sI μ 32 y := mf_I frm (q _ (by decide) (by decide))
    have i34 : sI τm 34 y = sI μ 34 y := mf_I frm (q _ (by decide) (by decide))
    have j33 : sJ τm 33 y = sJ μ 33 y := mf_J frm (q _ (by decide) (by decide))
    have j35 : sJ τm 35 y = sJ μ 35 y := mf_J frm (q _ (by decide) (by decide))
    refine ⟨?_, ?_, by rw [i212]; exact r3, by rw [i212]; exact r4⟩
    · rw [i212, j213, i32, j33]; exact VV_mono wl r1
    · rw [i214, j215, i34, j35]; exact VV_mono wl r2
  · exact hm a b hab
  · rw [mf_J fr (p _ (by decide) (by decide)), mf_I frm (hq 19 (.inr (.inl rfl)))]; exact (E a b hab).2.2
/-- a table gets another metatable -/
theorem RT_meta {w : WD} {σ μ : mS} {es es' : Int32 → List Int32} (R : RT w σ μ es es') {a b x y : Int32} (W : WOK w) (h : (a, b) ∈ wT w) (hxy : (x = -1 ∧ y = -1) ∨ (x, y) ∈ wT w) : RT w (md_ai σ 195 a.toNatClampNeg x) (md_ai μ 20 b.toNatClampNeg y) es es' := by
  have fr : m_fr (fun k => k == 195) σ (md_ai σ 195 a.toNatClampNeg x) := mf_ai mf_rfl rfl
  have frm : m_fr (fun k => k == 20) μ (md_ai μ 20 b.toNatClampNeg y) := mf_ai mf_rfl rfl
  obtain ⟨a0, a1, b0, b1⟩ := RT_rng R h
  refine RT_fr0 R wle_rfl rfl fr frm (fun k hk => by simp only [beq_eq_false_iff_ne]; omega) (fun k hk => by simp only [beq_eq_false_iff_ne]; omega) (fun c d hcd => ?_)
  obtain ⟨c0, _, d0, _⟩ := RT_rng R hcd
  have bj := W.1 a b c d h hcd
  simp only [sI_ai a0 c0, sI_ai b0 d0, true_and]
  by_cases e : c = a
  · rw [if_pos e, if_pos (bj.mp e.symm).symm]; exact hxy
  · rw [if_neg e, if_neg (fun z => e (bj.mpr z.symm).symm)]; exact (R.2.2.2.2 c d hcd).2.1
theorem lib_setmeta {L : LQ} (E : EVok (lE L)) {w : WD} {σ μ : mS} (H : LC L w 0 σ μ) (hl : lB L = 15) : LO L w (xx8_setMeta (lNn L) σ) (mm_setBehind (lNn L) μ 15) := by
  have hl' : (15 : Int32) = Int32.ofNat (lB L) := by rw [hl]; rfl
  unfold xx8_setMeta mm_setBehind
  refine (tab_L E H (i := 1) (by decide) (by decide) hl' (fun z => ⟨md_pi z 227 1, ?_, u227⟩)).elim (fun ⟨a, b, hab, a1, a2, a3, a4, a5, a6⟩ => ?_) (fun o => .inr o)
  · simp only [unless_0, bd_so, bx_so, bd_bd, lt, gd_z1, gd_z0, sF_fold, sF_pi, if_true, i10, if_false, ite_true, ite_false, mm_setBehind_46]
  have v2 := arg_V H (i := 2) (by decide)
  have t2 := VV_t v2
  rw [a5, a6]
  simp only [bx_so, bd_so, unless_1 (L_227 H), sF_fold, L_227 H, if_true, (tag_L H (i := 2) (by decide)).1, (tag_M H (i := 2) (by decide) (by decide)).1]
  -- what is common
  have com : (∃ x y, ((x = -1 ∧ y = -1) ∨ (x, y) ∈ wT w) ∧ ((aT σ 2 = 0 ∧ x = -1 ∧ bT μ 2 ≠ 4 ∧ y = -1) ∨ (aT σ 2 ≠ 0 ∧ (aV σ 2).toInt32 = x ∧ bT μ 2 = 4 ∧ (bV μ 2).toInt32 = y))) → LO L w (xx8_setMeta_b29 (lNn L) a σ) (mm_setBehind_46 (lNn L) μ) := fun ⟨x, y, hxy, hc⟩ => by
    obtain ⟨mx, my, m1, m2, m3, m4, m5⟩ := meta_L H (i := 1) (by decide)
    obtain ⟨q1, q2, q3, q4, q5, q6⟩ := m3 a1
    rw [a4, h_ll] at q1 q3 q4
    rw [a3, h_ll] at q2 q5 q6
    have hx : xx6_handler (lNn L) σ 5 (Int32.toInt64 a) 10 = (if mx = -1 then some (-1, σ) else bd (xx3_live (lNn L) σ mx 4 (Int32.toInt64 (sI σ 392 10))) (fun z => some (z.1, z.2))) := by
      have m1' := m1 (lNn L)
      rw [a1, a3] at m1'
      simp (disch := decide) only [xx6_handler, m1', bd_so, lt, gd_in, if_pos, if_neg, ↓reduceIte, gd_z0, gd_z1, gd_tt, sF_fold, sG_fold, sI_fold, sJ_fold]
      by_cases z : mx = -1
      · rw [if_pos z, if_pos z]; rfl
      · rw [if_neg z, if_neg z]; rfl
    -- the end
    have fin : ∀ {μ1 : mS}, LC L w 0 σ μ1 → bT μ1 = bT μ → bV μ1 = bV μ → LO L w (bd (xx8_tag (lNn L) σ 2) (fun z4 => (if z4.1 = 0 then xx8_setMeta_b85 (lNn L) a a (-1) z4.2 else bd (xx8_value (lNn L) z4.2 2) (fun z5 => xx8_setMeta_b85 (lNn L) a a (Int64.toInt32 z5.1) z5.2)))) (bd (mm_typeOf (lNn L) μ1 2) (fun z3 => (if z3.1 = 4 then bd (mm_valueOf (lNn L) z3.2 2) (fun z4 => mm_setBehind_135 (lNn L) b b (Int64.toInt32 z4.1) z4.2) else mm_setBehind_135 (lNn L) b b (-1) z3.2))) := fun {μ1} H1 eb1 eb2 => by
      obtain ⟨es, es', R⟩ := H1.1.1.1.1.1.2.2.1
      have W := H1.1.1.1.1.1.1
      have RR := H1.1.1.1.1.1
      have fr : m_fr (fun k => k == 195) σ (md_ai σ 195 a.toNatClampNeg x) := mf_ai mf_rfl rfl
      have frm : m_fr (fun k => k == 20) μ1 (md_ai μ1 20 b.toNatClampNeg y) := mf_ai mf_rfl rfl
      have pp : ∀ k, k ≠ 195 → (fun k => k == 195) k = false := fun k hk => by simp only [beq_eq_false_iff_ne]; exact hk
      have qq : ∀ k, k ≠ 20 → (fun k => k == 20) k = false := fun k hk => by simp only [beq_eq_false_iff_ne]; exact hk
      have RH' : RH (eK (lE L)) (eQ (lE L) + fQ μ1) w (md_ai σ 195 a.toNatClampNeg x) (md_ai μ1 20 b.toNatClampNeg y) :=
        ⟨W, RS_fr RR.2.1 fr frm (fun k a b => pp k (by omega)) (fun k a b c => qq k (by omega)), ⟨es, es', RT_meta R W hab hxy⟩, RF_fr RR.2.2.2.1 wle_rfl rfl fr frm (fun k a b => pp k (by omega)) (fun k a b c => qq k (by omega)), RB_fr RR.2.2.2.2.1 wle_rfl rfl fr frm (fun k a b => pp k (by omega)) (fun k a b => qq k (by omega)), by simp only [sF_pi, sF_pl, sF_ai, sF_al, sG_pi, sG_pl, sG_ai, sG_al, sI_pi, sI_pl, sI_al, sI_ai1, sI_ai2, sJ_pi, sJ_pl, sJ_ai, sJ_al1, sJ_al2, Nat.reduceEqDiff, if_true, if_false, ne_eq, not_false_eq_true, ite_true, ite_false]; exact RR.2.2.2.2.2.1, by simp only [sF_pi, sF_pl, sF_ai, sF_al, sG_pi, sG_pl, sG_ai, sG_al, sI_pi, sI_pl, sI_al, sI_ai1, sI_ai2, sJ_pi, sJ_pl, sJ_ai, sJ_al1, sJ_al2, Nat.reduceEqDiff, if_true, if_false, ne_eq, not_false_eq_true, ite_true, ite_false]; exact RR.2.2.2.2.2.2.1, by simp only [sF_pi, sF_pl, sF_ai, sF_al, sG_pi, sG_pl, sG_ai, sG_al, sI_pi, sI_pl, sI_al, sI_ai1, sI_ai2, sJ_pi, sJ_pl, sJ_ai, sJ_al1, sJ_al2, Nat.reduceEqDiff, if_true, if_false, ne_eq, not_false_eq_true, ite_true, ite_false]; exact RR.2.2.2.2.2.2.2.1, RR.2.2.2.2.2.2.2.2⟩
      have L1 := LC_hp H1 RH' wle_rfl rfl rfl rfl (cds_fr fr rfl rfl rfl) fr frm (fun k hk => pp k (by omega)) (fun k hk => qq k (by omega)) (fun k _ => by rw [frm.2.2.1 44 rfl])
      have vt : VV w 5 (Int32.toInt64 a) 4 (Int32.toInt64 b) := .inr (.inr (.inr (.inr (.inr (.inl ⟨rfl, rfl, _, _, rfl, rfl, hab⟩)))))
      obtain ⟨τ, τm, b1, b2, b3, _⟩ := give_L (N := lNn L) L1 (by decide) vt
      have gx : xx8_setMeta_b85 (lNn L) a a x σ = some (.ok τ) := by
        simp only [xx8_setMeta_b85, gd_in (show (3000 : Nat) < 2147483648 by decide) q5 q6, lt, xx8_give, b1, bx_so]
      have gm : mm_setBehind_135 (lNn L) b b y μ1 = some τm := by
        simp only [mm_setBehind_135, gd_in (show (3000 : Nat) < 2147483648 by decide) q3 q4, lt, b2, bd_so]
      simp only [bd_so, (tag_L H1 (i := 2) (by decide)).1, (tag_L H1 (i := 2) (by decide)).2, (tag_M H1 (i := 2) (by decide) (by decide)).1, (tag_M H1 (i := 2) (by decide) (by decide)).2, eb1, eb2]
      rcases hc with ⟨h1, h2, h3, h4⟩ | ⟨h1, h2, h3, h4⟩
      · rw [h2] at gx
        rw [h4] at gm
        rw [if_pos h1, if_neg h3, gx, gm]
        exact LO_ok b3
      · rw [if_neg h1, if_pos h3, h2, h4, gx, gm]
        exact LO_ok b3
    have e42 : (md_pi μ 42 0).2.2.1 20 = μ.2.2.1 20 := rfl
    have i20 : sI (md_pi μ 42 0) 20 b = sI μ 20 b := by simp only [sF_pi, sF_pl, sF_ai, sF_al, sG_pi, sG_pl, sG_ai, sG_al, sI_pi, sI_pl, sI_al, sI_ai1, sI_ai2, sJ_pi, sJ_pl, sJ_ai, sJ_al1, sJ_al2, Nat.reduceEqDiff, if_true, if_false, ne_eq, not_false_eq_true, ite_true, ite_false]
    have e213 : sF (md_pi μ 42 0) 213 = sF μ 213 := by simp only [sF_pi, sF_pl, sF_ai, sF_al, sG_pi, sG_pl, sG_ai, sG_al, sI_pi, sI_pl, sI_al, sI_ai1, sI_ai2, sJ_pi, sJ_pl, sJ_ai, sJ_al1, sJ_al2, Nat.reduceEqDiff, if_true, if_false, ne_eq, not_false_eq_true, ite_true, ite_false]
    have H' : LC L w 0 σ (md_pi μ 42 0) := LC_u H mf_rfl (mf_pi mf_rfl rfl)
    simp only [xx8_setMeta_b29, mm_setBehind_46, sF_fold, L_227 H, if_true, (tag_M H (i := 1) (by decide) (by decide)).2, bd_so, a4, h_ll, lt, gd_in (show (3000 : Nat) < 2147483648 by decide) q3 q4, sI_fold, i20, ← q1, hx, e213]
    rcases m2 with ⟨e1, e2⟩ | hm
    · rw [if_pos e1, if_pos (by rw [e2]; decide)]
      simp only [bd_so, if_true, mm_setBehind_91, sF_fold, sF_pi, sF_pl, sF_ai, sF_al, sG_pi, sG_pl, sG_ai, sG_al, sI_pi, sI_pl, sI_al, sI_ai1, sI_ai2, sJ_pi, sJ_pl, sJ_ai, sJ_al1, sJ_al2, Nat.reduceEqDiff, if_true, if_false, ne_eq, not_false_eq_true, ite_true, ite_false]
      exact fin H' (bT_fr (Q := fun k => k == 42) (mf_pi mf_rfl rfl) rfl rfl rfl) (bV_fr (Q := fun k => k == 42) (mf_pi mf_rfl rfl) rfl rfl)
    · obtain ⟨es, es', R⟩ := H.1.1.1.1.1.2.2.1
      obtain ⟨g1, g2, g3, g4⟩ := RT_rng R hm
      have mn : ¬ mx = -1 := fun q => by rw [q] at g1; exact absurd g1 (by decide)
      have ny : ¬ my < 0 := by lia
      obtain ⟨r, c, d, d1, d2, d3, d4⟩ := prot_L E H' hm
      rw [e213] at d2
      rw [if_neg mn, if_neg ny, d1, d2]
      simp only [bd_so, mm_setBehind_91, sF_fold, gt_42]
      rcases d4 with ⟨r1, r2, r3⟩ | ⟨r0, r1, r2, r3, r4⟩
      · rw [if_pos r1, if_pos r2]
        exact fin d3 ((bT_fr (gt_u) rfl rfl rfl).trans (bT_fr (Q := fun k => k == 42) (mf_pi mf_rfl rfl) rfl rfl rfl)) ((bV_fr gt_u rfl rfl).trans (bV_fr (Q := fun k => k == 42) (mf_pi mf_rfl rfl) rfl rfl))
      · have rr : ¬ r = -1 := fun q => by rw [q] at r0; exact absurd r0 (by decide)
        rw [if_neg rr, if_neg r3]
        simp only [gd_z1, bd_id]
        exact .inr (fault_L E d3.1 (by decide) (by decide) tx_113 mtl.1)
  by_cases z : aT σ 2 = 0
  · rw [if_pos z, if_pos (t2.1.mp z)]
    exact com ⟨-1, -1, .inl ⟨rfl, rfl⟩, .inl ⟨z, rfl, by rw [t2.1.mp z]; decide, rfl⟩⟩
  · rw [if_neg z, if_neg (fun q => z (t2.1.mpr q))]
    by_cases y : aT σ 2 = 5
    · have v := arg_V' H (i := 2) (by decide) (arg_n H z)
      rw [y] at v
      obtain ⟨w1, w2, w3⟩ := VV_tb v
      rw [if_pos y, if_pos (t2.2.2.2.1.mp y)]
      exact com ⟨_, _, .inr w1, .inr ⟨z, rfl, t2.2.2.2.1.mp y, rfl⟩⟩
    · rw [if_neg y, if_neg (fun q => y (t2.2.2.2.1.mpr q))]
      refine .inr (bad_L E H hl' (fun z => ⟨md_pi z 227 1, ?_, u227⟩))
      simp only [unless_0, bd_so, bx_so, bd_bd, lt, gd_z1, gd_z0, sF_fold, sF_pi, if_true, i10, if_false, ite_true, ite_false, mm_setBehind_46]
theorem gat_L {N : Nat} (hN : BIG ≤ N) {L : LQ} {w : WD} {σ μ : mS} (H : LC L w 0 σ μ) {k n : Int32} (k0 : 0 ≤ k) (n0 : 0 ≤ n) (n1 : n ≤ 100) (kn : k + n ≤ ln L) (k1 : k ≤ 100) : ∃ τm, mm_gather N μ (sF μ 221 + 1 + k) n = some τm ∧ m_fr vM μ τm ∧ sF τm 190 = n ∧ ∀ i, 0 ≤ i → i < n → sI τm 188 i = bT μ (1 + k + i) ∧ sJ τm 189 i = bV μ (1 + k + i) := by
  have cb := CL_b H.1.1
  have n1' := H.2.1.2
  have ep : sF μ 221 = (lT L).2.2.2.1 := H.2.2.1.2.2.1
  have en : sF μ 222 = ln L := H.2.2.1.2.2.2.1
  obtain ⟨τm, a1, a2, a3, a4⟩ := gather_m hN (μ := μ) (from' := sF μ 221 + 1 + k) (n := n) (by rw [ep]; lia) (by rw [ep]; lia) n0 (by lia) (fun i i0 i1 => by
    have v := arg_V' H (i := 1 + k + i) (by lia) (by lia)
    have t := VV_tag v
    simp only [bT] at t
    rw [en, if_neg (by lia), show sF μ 221 + (1 + k + i) = sF μ 221 + 1 + k + i by lia] at t
    exact ⟨t.2.2.1, by lia⟩)
  refine ⟨τm, a1, a2, a3, fun i i0 i1 => ?_⟩
  obtain ⟨b1, b2⟩ := a4 i i0 i1
  simp only [bT, bV]
  rw [en, if_neg (by lia), show sF μ 221 + (1 + k + i) = sF μ 221 + 1 + k + i by lia]
  exact ⟨b1, b2⟩
