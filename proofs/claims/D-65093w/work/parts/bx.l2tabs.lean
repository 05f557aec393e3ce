/-! LAYER 2: functions of the house: tables: unpack, insert, pack -/
/-- the system alone reckons a length -/
theorem len_X {L : LQ} (E : EVok (lE L)) {w : WD} {g a b : Int32} {σ μ : mS} (H : LC L w g σ μ) (h : (a, b) ∈ wT w) : ∃ n τ τm, xx3_length (lNn L) σ a = some (n, τ) ∧ mm_length (lNn L) μ b = some (Int32.toInt64 n, τm) ∧ 0 ≤ n ∧ n ≤ 20000 ∧ LC L w g τ τm ∧ LC L w g τ μ ∧ m_fr hU σ τ ∧ m_fr (fun k => [25, 42, 43].contains k) μ τm := by
  have RR := H.1.1.1.1.1
  obtain ⟨es, es', R⟩ := RR.2.2.1
  obtain ⟨n, τ, τm, o1, o2, n0, n1, R2, S2, fr, frm⟩ := length_2 (EV_N E) RR.2.1 R h
  have p : ∀ k, k < 202 ∨ 208 < k → hU k = false := fun k hk => by
    simp only [hU, List.contains_cons, List.contains_nil, Bool.or_eq_false_iff, beq_eq_false_iff_ne]
    repeat' apply And.intro
    all_goals first | trivial | omega
  have p' : ∀ k, k < 25 ∨ 43 < k ∨ (26 ≤ k ∧ k ≤ 41) → (fun k => [25, 42, 43].contains k) k = false := fun k hk => by
    simp only [List.contains_cons, List.contains_nil, Bool.or_eq_false_iff, beq_eq_false_iff_ne]
    repeat' apply And.intro
    all_goals first | trivial | omega
  have ser : ∀ {μ1 : mS}, sF μ1 18 = sF μ 18 → sF μ1 29 = sF μ 29 → sF μ1 48 = sF μ 48 → sG τ 194 = Int32.toInt64 (sF μ1 18) + 1 ∧ 0 ≤ sF μ1 18 ∧ (sF μ1 18).toInt + (sF μ1 29).toInt + (sF μ1 48).toInt ≤ eQ (lE L) + fQ μ ∧ eQ (lE L) + fQ μ ≤ 1000000000 := fun e1 e2 e3 => by
    rw [e1, e2, e3, mf_G fr (p 194 (by omega))]
    exact RR.2.2.2.2.2
  have RH1 : RH (eK (lE L)) (eQ (lE L) + fQ μ) w τ τm := ⟨RR.1, S2, ⟨es, es', R2⟩, RF_fr RR.2.2.2.1 wle_rfl rfl fr frm (fun k a b => p k (by omega)) (fun k a b c => p' k (by omega)), RB_fr RR.2.2.2.2.1 wle_rfl rfl fr frm (fun k a b => p k (by omega)) (fun k a b => p' k (by omega)), ser (mf_F frm rfl) (mf_F frm rfl) (mf_F frm rfl)⟩
  have RT3 : RT w τ μ es es' := by
    obtain ⟨⟨ps, hs, ff, fh, M⟩, F, ⟨ps', MM2⟩, FT2, R5⟩ := R2
    obtain ⟨_, _, MM1, FT1, Q5⟩ := R
    refine ⟨⟨ps, hs, ff, fh, M⟩, F, MM1, FT1, fun c d hcd => ?_⟩
    obtain ⟨q1, q2, q3⟩ := R5 c d hcd
    refine ⟨F2_mono q1 (fun x y _ _ r => ?_), ?_, ?_⟩
    · simp only [ER] at r ⊢
      rw [mf_I (k := 32) frm rfl, mf_J (k := 33) frm rfl, mf_I (k := 34) frm rfl, mf_J (k := 35) frm rfl] at r
      exact r
    · rw [mf_I (k := 20) frm rfl] at q2; exact q2
    · rw [mf_I (k := 19) frm rfl] at q3; exact q3
  have RH2 : RH (eK (lE L)) (eQ (lE L) + fQ μ) w τ μ := ⟨RR.1, RS_fr RR.2.1 fr (mf_rfl (P := fun _ => false)) (fun k a b => p k (by omega)) (fun k a b c => rfl), ⟨es, es', RT3⟩, RF_fr RR.2.2.2.1 wle_rfl rfl fr (mf_rfl (P := fun _ => false)) (fun k a b => p k (by omega)) (fun k a b c => rfl), RB_fr RR.2.2.2.2.1 wle_rfl rfl fr (mf_rfl (P := fun _ => false)) (fun k a b => p k (by omega)) (fun k a b => rfl), ser rfl rfl rfl⟩
  refine ⟨n, τ, τm, o1, o2, n0, n1, LC_hp H RH1 wle_rfl rfl rfl rfl (cds_fr fr (p _ (by omega)) (p _ (by omega)) (p _ (by omega))) fr frm (fun k hk => p k (by omega)) (fun k hk => p' k (by omega)) (fun k _ => by rw [frm.2.2.1 44 rfl]), LC_hp H RH2 wle_rfl rfl rfl rfl (cds_fr fr (p _ (by omega)) (p _ (by omega)) (p _ (by omega))) fr (mf_rfl (P := fun _ => false)) (fun k hk => p k (by omega)) (fun k hk => rfl) (fun k _ => rfl), fr, frm⟩
theorem tx_114 : xtx 114 = mtx 8 := by decide +kernel
theorem tx_116 : xtx 116 = mtx 41 := by decide +kernel
theorem mtl2 : (mtx 41).length ≤ 100 := by decide +kernel
/-- entries from i on are given -/
theorem up_lp {L : LQ} (E : EVok (lE L)) {w : WD} {a b : Int32} (h : (a, b) ∈ wT w) {i j : Int64} (ij : i ≤ j) (hd : (j - i).toInt < 100) (hd0 : 0 ≤ (j - i).toInt) (hs : (j - i).toInt = j.toInt - i.toInt) : ∀ (m : Nat) (d : Nat) (σ μ : mS), (d : Int) ≤ (j - i).toInt + 1 → ((j - i).toInt - d).toNat + 1 < m → LC L w (Int32.ofNat d) σ μ → (d : Int) ≤ (j - i).toInt → LO L w (xx8_unpack_b73 (lNn L) m a j (i + Int64.ofInt d) σ) (mm_spread_75 (lNn L) m b i j (Int64.ofInt d) μ) := by
  intro m
  induction m with
  | zero => intro d σ μ _ h; omega
  | succ m ih =>
    intro d σ μ hd1 hm H hdj
    have rj := l_rng j
    have ri := l_rng i
    have ed : (Int64.ofInt (d : Int)).toInt = d := Int64.toInt_ofInt_of_le (by omega) (by omega)
    have ei : (i + Int64.ofInt d).toInt = i.toInt + d := by rw [L_add, ed] <;> omega
    rw [xx8_unpack_b73, mm_spread_75]
    have c1 : ¬ 0 < lg_cmp (i + Int64.ofInt d) j := fun q => by
      rw [lgc_gt, L_lt, ei] at q; omega
    have c2 : ¬ 0 < lg_cmp (Int64.ofInt (d : Int)) (j - i) := fun q => by
      rw [lgc_gt, L_lt, ed] at q; omega
    obtain ⟨r, c, x, o1, o2, o3, o4⟩ := live_L E H h (VV_n (v := i + Int64.ofInt d)) (by decide)
    have gd : Int32.ofNat d < 100 := by
      rw [tI_lt, tI_lit (by omega)]
      show (d : Int) < 100
      omega
    obtain ⟨τ, τm, b1, b2, b3, _⟩ := entry_L (N := lNn L) o3 gd o4
    rw [if_neg c1, if_neg c2, o1, o2, bd_so, bd_so]
    dsimp only
    simp only [sF_fold, sG_fold, gt_42, gt_43]
    rw [b1, b2, bx_so, bd_so, lt, lt]
    have eg : Int32.ofNat d + 1 = Int32.ofNat (d + 1) := oN_s
    rw [eg] at b3
    by_cases z : lg_cmp (i + Int64.ofInt d) 9223372036854775807 = 0
    · rw [if_pos z, xx8_unpack_b120]
      rw [lgc_eq, L_eq, ei, show (9223372036854775807 : Int64).toInt = 9223372036854775807 from rfl] at z
      obtain ⟨m2, rfl⟩ : ∃ m2, m = m2 + 1 := ⟨m - 1, by omega⟩
      have y1 : (1 : Int64).toInt = 1 := rfl
      have e1 : (Int64.ofInt (d : Int) + 1).toInt = d + 1 := by
        rw [L_add (by rw [ed, y1]; omega) (by rw [ed, y1]; omega), ed, y1]
      rw [mm_spread_75, if_pos (lgc_gt.mpr (by rw [L_lt, e1]; omega))]
      exact LO_ok b3
    · rw [if_neg z]
      have nz : ¬ i.toInt + d = 9223372036854775807 := fun q => z (lgc_eq.mpr (L_eq.mpr (by rw [ei, q]; rfl)))
      have y1 : (1 : Int64).toInt = 1 := rfl
      have ed1 : (Int64.ofInt ((d + 1 : Nat) : Int)).toInt = ((d + 1 : Nat) : Int) := Int64.toInt_ofInt_of_le (by omega) (by omega)
      have e1 : Int64.ofInt (d : Int) + 1 = Int64.ofInt ((d + 1 : Nat) : Int) := by
        rw [L_eq, L_add (by rw [ed, y1]; omega) (by rw [ed, y1]; omega), ed, y1, ed1]; omega
      have e2 : i + Int64.ofInt (d : Int) + 1 = i + Int64.ofInt ((d + 1 : Nat) : Int) := by
        rw [L_eq, L_add (by rw [ei, y1]; omega) (by rw [ei, y1]; omega), ei, y1, L_add (by rw [ed1]; omega) (by rw [ed1]; omega), ed1]; omega
      rw [e1, e2]
      by_cases y : ((d + 1 : Nat) : Int) ≤ (j - i).toInt
      · exact ih (d + 1) τ τm (by omega) (by omega) b3 y
      · obtain ⟨m2, rfl⟩ : ∃ m2, m = m2 + 1 := ⟨m - 1, by omega⟩
        have e3 : (Int64.ofInt ((d + 1 : Nat) : Int)).toInt = d + 1 := by
          rw [Int64.toInt_ofInt_of_le (by omega) (by omega)]; omega
        have e4 : (i + Int64.ofInt ((d + 1 : Nat) : Int)).toInt = i.toInt + d + 1 := by
          rw [L_add, e3] <;> (try rw [e3]) <;> omega
        rw [xx8_unpack_b73, mm_spread_75, if_pos (lgc_gt.mpr (by rw [L_lt, e4]; omega)), if_pos (lgc_gt.mpr (by rw [L_lt, e3]; omega))]
        exact LO_ok b3
theorem lib_unpack {L : LQ} (E : EVok (lE L)) {w : WD} {σ μ : mS} (H : LC L w 0 σ μ) (hl : lB L = 30) : LO L w (xx8_unpack (lNn L) σ) (mm_ofTables (lNn L) μ 30) := by
  have hl' : (30 : Int32) = Int32.ofNat (lB L) := by rw [hl]; rfl
  unfold xx8_unpack mm_ofTables
  rw [if_neg (by decide)]
  refine (tab_L E H (i := 1) (by decide) (by decide) hl' (fun z => ⟨md_pi z 227 1, ?_, u227⟩)).elim (fun ⟨a, b, hab, a1, a2, a3, a4, a5, a6⟩ => ?_) (fun o => .inr o)
  · simp only [unless_0, bd_so, bx_so, bd_bd, lt, gd_z1, gd_z0, sF_fold, sF_pi, if_true, i10, if_false, ite_true, ite_false, mm_ofTables_293]
  rw [a5, a6, bx_so, bd_so]
  dsimp only
  rw [unless_1 (L_227 H), bd_so]
  simp only [sF_fold, L_227 H, if_true]
  rw [(tag_M H (i := 1) (by decide) (by decide)).2, bd_so, lt, a4, h_ll]
  dsimp only
  iterate 3 rw [if_neg (by decide)]
  try rw [if_pos rfl]
  refine (opt_L E H (i := 2) (o := 1) (by decide) (by decide) hl' (fun z => ⟨md_pi z 227 1, ?_, u227⟩)).elim (fun ⟨i, i1, i2, i3, _⟩ => ?_) (fun o => .inr o)
  · simp only [unless_0, bd_so, bx_so, bd_bd, lt, gd_z1, gd_z0, sF_fold, sF_pi, if_true, i10, if_false, ite_true, ite_false, mm_ofTables_269, mm_ofTables_270, mm_ofTables_293]
  rw [i2, i3, bx_so, bd_so]
  dsimp only
  rw [if_neg (show ¬ (1 : Int32) = 0 by decide)]
  obtain ⟨n, τ, τm, o1, o2, n0, n1, L1, L2, fr, frm⟩ := len_X E H hab
  rw [o1, bd_so]
  dsimp only
  have aT2 : aT τ = aT σ := aT_fr fr rfl rfl
  refine (opt_L E L2 (i := 3) (o := Int32.toInt64 n) (by decide) (by decide) hl' (fun z => ⟨md_pi z 227 1, ?_, u227⟩)).elim (fun ⟨j, j1, j2, j3, j4⟩ => ?_) (fun o => .inr o)
  · simp only [unless_0, bd_so, bx_so, bd_bd, lt, gd_z1, gd_z0, sF_fold, sF_pi, if_true, i10, if_false, ite_true, ite_false, mm_ofTables_269, mm_ofTables_270, mm_ofTables_293]
  rw [j2, j3, bx_so, bd_so]
  dsimp only
  rw [if_neg (show ¬ (1 : Int32) = 0 by decide), mm_ofTables_270, unless_1 (L_227 H), bd_so]
  simp only [sF_fold, L_227 H, if_true]
  have tm3 := tag_M (N := lNn L) H (i := 3) (by decide) (by decide)
  rw [mm_spread, i1, bd_so, bd_bd]
  dsimp only
  rw [tm3.1, bd_so]
  dsimp only
  -- both sides from here on
  have com : ∀ (μ1 : mS), LC L w 0 τ μ1 → LO L w (if lg_cmp j i < 0 then xx8_unpack_b70 (lNn L) a i j τ else if lg_cmp (j - i) 0 < 0 then xx8_unpack_b59 (lNn L) τ else if lg_cmp (j - i) 100 < 0 then xx8_unpack_b70 (lNn L) a i j τ else xx8_unpack_b59 (lNn L) τ) (mm_spread_29 (lNn L) b i j μ1) := fun μ1 H1 => by
    obtain ⟨nn, hnn⟩ := N_suc E
    have bad : LO L w (xx8_unpack_b59 (lNn L) τ) (mm_spread_59 (lNn L) μ1) := by
      simp only [xx8_unpack_b59, mm_spread_59, gd_z1, lt, bd_id]
      exact .inr (fault_L E H1.1 (by decide) (by decide) tx_114 mtl.2.2.2.2.2)
    have y100 : (100 : Int64).toInt = 100 := rfl
    have y0 : (0 : Int64).toInt = 0 := rfl
    unfold mm_spread_29
    by_cases p : lg_cmp j i < 0
    · have q : ¬ lg_cmp i j ≤ 0 := fun q => by
        rw [lgc_le, L_le] at q; rw [lgc_lt, L_lt] at p; omega
      have pg : 0 < lg_cmp i j := by rw [lgc_gt]; rw [lgc_lt] at p; exact p
      rw [if_pos p, if_neg q, xx8_unpack_b70]
      have b : xx8_unpack_b73 (lNn L) (lNn L) a j i τ = some (.ok τ) := by
        conv => lhs; arg 2; rw [hnn]
        rw [xx8_unpack_b73, if_pos pg, xx8_unpack_b120]
      rw [b]
      exact LO_ok H1
    · have q : lg_cmp i j ≤ 0 := by
        rw [lgc_le, L_le]; rw [lgc_lt, L_lt] at p; omega
      rw [if_neg p, if_pos q]
      have ij : i ≤ j := lgc_le.mp q
      by_cases r : lg_cmp (j - i) 0 < 0
      · rw [if_pos r]
        by_cases s : 0 ≤ lg_cmp (j - i) 100
        · exfalso
          rw [lgc_ge, L_le, y100] at s; rw [lgc_lt, L_lt, y0] at r; omega
        · have t : ¬ 0 ≤ lg_cmp (j - i) 0 := fun t => by
            rw [lgc_ge, L_le, y0] at t; rw [lgc_lt, L_lt, y0] at r; omega
          rw [if_neg s, if_neg t]
          exact bad
      · rw [if_neg r]
        by_cases s : lg_cmp (j - i) 100 < 0
        · have s' : ¬ 0 ≤ lg_cmp (j - i) 100 := fun t => by
            rw [lgc_ge, L_le, y100] at t; rw [lgc_lt, L_lt, y100] at s; omega
          have t : 0 ≤ lg_cmp (j - i) 0 := by
            rw [lgc_ge, L_le, y0]; rw [lgc_lt, L_lt, y0] at r; omega
          rw [if_pos s, if_neg s', if_pos t, xx8_unpack_b70]
          rw [lgc_lt, L_lt, y100] at s
          rw [lgc_ge, L_le, y0] at t
          have rj := l_rng j
          have ri := l_rng i
          rw [L_le] at ij
          have hs : (j - i).toInt = j.toInt - i.toInt := by
            by_cases big : j.toInt - i.toInt < 9223372036854775808
            · exact L_sub (by omega) big
            · exfalso
              have e := Int64.toInt_sub j i
              rw [Int.bmod_def] at e
              split at e <;> omega
          have eu : i + Int64.ofInt ((0 : Nat) : Int) = i := by
            rw [L_eq, L_add] <;> rw [show (Int64.ofInt ((0 : Nat) : Int)).toInt = 0 from rfl] <;> omega
          have hb : BIG ≤ lNn L := EV_N E
          have hB : BIG = 8589934592 := rfl
          have := up_lp E hab (by rw [L_le]; exact ij) s t hs (lNn L) 0 τ μ1 (by omega) (by omega) H1 (by omega)
          rw [eu] at this
          exact this
        · have s' : 0 ≤ lg_cmp (j - i) 100 := by
            rw [lgc_ge, L_le, y100]; rw [lgc_lt, L_lt, y100] at s; omega
          rw [if_neg s, if_pos s']
          exact bad
  simp only [mm_ofTables_293, bd_id]
  rcases j4 with ⟨q1, q2, q3⟩ | ⟨q1, q2, q3⟩
  · have q4 : ¬ bT μ 3 = 2 := by rw [q3]; decide
    rw [if_neg q4, o2, bd_so]
    dsimp only
    rw [← q2]
    exact com τm L1
  · rw [if_pos q2, tm3.2, bd_so]
    dsimp only
    rw [← q3]
    exact com μ L2
