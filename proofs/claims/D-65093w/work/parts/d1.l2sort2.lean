/-! LAYER 2: functions of the house: sort: all passes -/
theorem vp_T {T T' : Int32} (h : TK T T') : vp_nar .byte T' = T' ∧ vp_nar .byte T = T := by
  rcases h with ⟨rfl, rfl⟩ | ⟨rfl, rfl⟩
  · exact ⟨by decide +kernel, by decide +kernel⟩
  · exact ⟨by decide +kernel, by decide +kernel⟩
theorem oN_m2 {a : Nat} : (2 : Int32) * Int32.ofNat a = Int32.ofNat (2 * a) := (Int32.ofNat_mul 2 a).symm
theorem oN_m2' {a : Nat} : Int32.ofNat a * (2 : Int32) = Int32.ofNat (a * 2) := (Int32.ofNat_mul a 2).symm
theorem minN_x {N : Nat} {σ : mS} {a b : Nat} (ha : a ≤ 1000000) (hb : b ≤ 1000000) : xj8_min N σ (Int32.ofNat a) (Int32.ofNat b) = some (Int32.ofNat (min a b), σ) := by
  rw [xj8_min]
  by_cases c : b < a
  · rw [if_pos (by rw [oN_lt (by omega) (by omega)]; exact c), Nat.min_eq_right (by omega)]; rfl
  · rw [if_neg (fun q => c (by rw [oN_lt (by omega) (by omega)] at q; exact q)), Nat.min_eq_left (by omega)]; rfl
/-- rows that sorting changes -/
def sXs (k : Nat) : Bool := [539, 540].contains k
def sM (k : Nat) : Bool := [228, 229, 230, 231].contains k
theorem cpl_at {σ : mS} {i j k : Nat} {n : Nat} (hn : n < 2147483648) : (x_cpl σ i 0 j 0 (Int32.ofNat n)).2.2.2 j k = if k < n then σ.2.2.2 i k else σ.2.2.2 j k := by
  simp only [x_cpl, va_up, if_true, va_cpy]
  rw [show (0 : Int32).toNatClampNeg = 0 from by decide, oN_cl hn]
  by_cases c : k < n
  · rw [if_pos (by omega), if_pos c, Nat.zero_add, Nat.sub_zero]
  · rw [if_neg (by omega), if_neg c]
theorem cpl_fr {σ : mS} {i j : Nat} {sp dp n : Int32} : m_fr (fun k => k == j) σ (x_cpl σ i sp j dp n) := ⟨fun _ _ => rfl, fun _ _ => rfl, fun _ _ => rfl, fun k hk => by simp only [x_cpl, va_up]; rw [if_neg (fun e => by simp [e] at hk)]⟩
theorem cpl_g {n : Nat} (h : n ≤ 20000) : (x_aB 7 540 && x_aB 7 539 && x_cB 0 (Int32.ofNat n) (x_ln 540) && x_cB 0 (Int32.ofNat n) (x_ln 539)) = true := by
  have a1 : x_aB 7 540 = true := by decide +kernel
  have a2 : x_aB 7 539 = true := by decide +kernel
  have l1 : x_ln 540 = 20001 := by decide +kernel
  have l2 : x_ln 539 = 20001 := by decide +kernel
  have c : x_cB 0 (Int32.ofNat n) 20001 = true := cB_nn (p := 0) (by omega) (by omega)
  rw [a1, a2, l1, l2, c]; rfl
theorem sM_f {k : Nat} (h : k < 228 ∨ 231 < k) : sM k = false := by
  simp only [sM, List.contains_cons, List.contains_nil, Bool.or_eq_false_iff, beq_eq_false_iff_ne]
  repeat' apply And.intro
  all_goals first | trivial | omega
theorem sXs_f {k : Nat} (h : k < 539 ∨ 540 < k) : sXs k = false := by
  simp only [sXs, List.contains_cons, List.contains_nil, Bool.or_eq_false_iff, beq_eq_false_iff_ne]
  repeat' apply And.intro
  all_goals first | trivial | omega
/-- the reference copies back -/
theorem bk_m {N : Nat} {r : Int32 → Int32 → Int32 → mS → Option mS} {b v3 : Int32} {n : Nat} (hn : n ≤ 20000) {T' : Int32} (t8 : vp_nar .byte T' = T') : ∀ (c k m : Nat) (μ : mS), k + c = n → c < m → (∀ j, j < n → μ.2.2.1 230 j = T') → (∀ j, j < k → μ.2.2.1 228 j = T' ∧ μ.2.2.2 229 j = μ.2.2.2 231 j) → ∃ τ, mm_sort_176 N r m b (Int32.ofNat n) v3 (Int32.ofNat k) μ = r b (Int32.ofNat n) (v3 * 2) τ ∧ m_fr sM μ τ ∧ (∀ j, j < n → τ.2.2.1 228 j = T' ∧ τ.2.2.2 229 j = μ.2.2.2 231 j) := by
  intro c
  induction c with
  | zero =>
    intro k m μ hk hm h1 h2
    obtain ⟨m, rfl⟩ : ∃ j, m = j + 1 := ⟨m - 1, by omega⟩
    have e : k = n := by omega
    subst e
    exact ⟨μ, by rw [mm_sort_176, if_pos (Int32.le_refl _), lt], mf_rfl, h2⟩
  | succ c ih =>
    intro k m μ hk hm h1 h2
    obtain ⟨m, rfl⟩ : ∃ j, m = j + 1 := ⟨m - 1, by omega⟩
    have fr : m_fr sM μ (md_al (md_ai μ 228 k (vp_nar .byte (μ.2.2.1 230 k))) 229 k ((md_ai μ 228 k (vp_nar .byte (μ.2.2.1 230 k))).2.2.2 231 k)) := mf_al (mf_ai mf_rfl rfl) rfl
    have e228 : ∀ j, (md_al (md_ai μ 228 k (vp_nar .byte (μ.2.2.1 230 k))) 229 k ((md_ai μ 228 k (vp_nar .byte (μ.2.2.1 230 k))).2.2.2 231 k)).2.2.1 228 j = if j = k then vp_nar .byte (μ.2.2.1 230 k) else μ.2.2.1 228 j := fun j => by
      show (if (228 : Nat) = 228 then upd (μ.2.2.1 228) k (vp_nar .byte (μ.2.2.1 230 k)) else μ.2.2.1 228) j = _
      rw [if_pos rfl, upd_at]
    have e229 : ∀ j, (md_al (md_ai μ 228 k (vp_nar .byte (μ.2.2.1 230 k))) 229 k ((md_ai μ 228 k (vp_nar .byte (μ.2.2.1 230 k))).2.2.2 231 k)).2.2.2 229 j = if j = k then μ.2.2.2 231 k else μ.2.2.2 229 j := fun j => by
      rw [al_J, if_pos rfl, updJ]; rfl
    obtain ⟨τ, r1, r2, r3⟩ := ih (k + 1) m (md_al (md_ai μ 228 k (vp_nar .byte (μ.2.2.1 230 k))) 229 k ((md_ai μ 228 k (vp_nar .byte (μ.2.2.1 230 k))).2.2.2 231 k)) (by omega) (by omega) (fun j hj => h1 j hj) (fun j hj => by
      rw [e228, e229]
      show _ ∧ (if j = k then μ.2.2.2 231 k else μ.2.2.2 229 j) = μ.2.2.2 231 j
      by_cases q : j = k
      · rw [if_pos q, if_pos q, h1 k (by omega), t8, q]; exact ⟨rfl, rfl⟩
      · rw [if_neg q, if_neg q]; exact h2 j (by omega))
    refine ⟨τ, ?_, mf_tr fr r2, r3⟩
    rw [mm_sort_176, if_neg (oN_nle (by omega) (by omega)), gd_oN (by omega) (by decide), gd_oN (by omega) (by decide), oN_cl (by omega), lt, gd_oN (by omega) (by decide), gd_oN (by omega) (by decide), lt, lt, oN_s]
    exact r1
theorem pass_2 {N : Nat} (hN : BIG ≤ N) {w : WD} {T T' : Int32} (hT : TK T T') {rx : Int32 → Int32 → Int32 → mS → Option (Except (Nat × mS) mS)} {rm : Int32 → Int32 → Int32 → mS → Option mS} {a b : Int32} {n wide : Nat} (hn : n ≤ 20000) (n1 : 1 ≤ n) (w1 : 1 ≤ wide) (w2 : wide ≤ 40000) : ∀ (c f m m' : Nat) (σ μ : mS), n ≤ f + c → c < m → c < m' → f ≤ 120000 → RS w σ μ → SO w T T' n σ μ → σ.2.2.1 538 0 = T → MG w T T' 0 (min f n) σ μ → ∃ τ τm, xx8_sort_b143 N rx m a (Int32.ofNat n) (Int32.ofNat wide) (Int32.ofNat f) σ = rx a (Int32.ofNat n) (Int32.ofNat (wide * 2)) τ ∧ mm_sort_114 N rm m' b (Int32.ofNat n) (Int32.ofNat wide) (Int32.ofNat f) μ = rm b (Int32.ofNat n) (Int32.ofNat (wide * 2)) τm ∧ m_fr sXs σ τ ∧ m_fr sM μ τm ∧ SO w T T' n τ τm := by
  have big : 100000 < N := by
    have := hN
    simp only [BIG] at this
    omega
  intro c
  induction c with
  | zero =>
    intro f m m' σ μ hf hm hm' f1 S O e0 G
    obtain ⟨m, rfl⟩ : ∃ j, m = j + 1 := ⟨m - 1, by omega⟩
    obtain ⟨m', rfl⟩ : ∃ j, m' = j + 1 := ⟨m' - 1, by omega⟩
    rw [Nat.min_eq_right (by omega)] at G
    have nf : Int32.ofNat n ≤ Int32.ofNat f := by rw [oN_le (by omega) (by omega)]; omega
    obtain ⟨τm, r1, r2, r3⟩ := bk_m (N := N) (r := rm) (b := b) (v3 := Int32.ofNat wide) hn (vp_T hT).1 n 0 N μ (by omega) (by omega) (fun j hj => (G j (by omega) hj).1) (fun j hj => absurd hj (by omega))
    have r1' : mm_sort_176 N rm N b (Int32.ofNat n) (Int32.ofNat wide) 0 μ = rm b (Int32.ofNat n) (Int32.ofNat wide * 2) τm := r1
    refine ⟨x_cpl σ 540 0 539 0 (Int32.ofNat n), τm, ?_, ?_, mf_mono cpl_fr (fun k hk => by
      simp only [beq_eq_false_iff_ne]
      rintro rfl
      exact absurd hk (by decide)), r2, fun j hj => ?_⟩
    · rw [xx8_sort_b143, if_pos nf, cpl_g hn, gd_tt, lt, lt, oN_m2']
    · rw [mm_sort_114, if_pos nf, r1', oN_m2']
    · rw [(r3 j hj).1, (r3 j hj).2, cpl_at (by omega), if_pos hj]
      exact ⟨rfl, (G j (by omega) hj).2⟩
  | succ c ih =>
    intro f m m' σ μ hf hm hm' f1 S O e0 G
    by_cases fc : n ≤ f + c
    · obtain ⟨τ, τm, r⟩ := ih f m m' σ μ fc (by omega) (by omega) f1 S O e0 G
      exact ⟨τ, τm, r⟩
    obtain ⟨m, rfl⟩ : ∃ j, m = j + 1 := ⟨m - 1, by omega⟩
    obtain ⟨m', rfl⟩ : ∃ j, m' = j + 1 := ⟨m' - 1, by omega⟩
    have nf : ¬ Int32.ofNat n ≤ Int32.ofNat f := oN_nle (by omega) (by omega)
    have nz : ¬ Int32.ofNat n ≤ 0 := fun q => by
      rw [show (0 : Int32) = Int32.ofNat 0 from rfl, oN_le (by omega) (by omega)] at q; omega
    rw [Nat.min_eq_left (by omega)] at G
    obtain ⟨υ, υm, g1, g2, g3, g4, g5⟩ := mrg_lp' (w := w) hN hT (vp_T hT).1 (fl := if T = 4 then 1 else 0) rfl (n := n) (mid := min (f + wide) n) (to := min (f + 2 * wide) n) (lo := 0) hn (by omega) (by omega) (min (f + 2 * wide) n - f) f (min (f + wide) n) f N N σ μ (by omega) (by omega) (by omega) (by omega) (by omega) (by omega) (by omega) (by omega) S O G
    have g3' : m_fr sXs σ υ := mf_mono g3 (fun k hk => by
      simp only [wX', beq_eq_false_iff_ne]
      rintro rfl
      exact absurd hk (by decide))
    have g4' : m_fr sM μ υm := mf_mono g4 (fun k hk => by
      simp only [wM', List.contains_cons, List.contains_nil, Bool.or_eq_false_iff, beq_eq_false_iff_ne]
      repeat' apply And.intro
      · rintro rfl; exact absurd hk (by decide)
      · rintro rfl; exact absurd hk (by decide)
      · trivial)
    have S1 := RS_fr S g3' g4' (fun k a b => sXs_f (by omega)) (fun k a b c => sM_f (by omega))
    obtain ⟨τ, τm, r1, r2, r3, r4, r5⟩ := ih (f + 2 * wide) m m' υ υm (by omega) (by omega) (by omega) (by omega) S1 (SO_fr O g3 g4 rfl rfl rfl) (by rw [g3.2.2.1 538 rfl]; exact e0) g5
    refine ⟨τ, τm, ?_, ?_, mf_tr g3' r3, mf_tr g4' r4, r5⟩
    · have mg : ∀ y : Int32, y = (if T = 4 then 1 else 0) → xx8_sort_b189 N rx (xx8_sort_b143 N rx m) a (Int32.ofNat n) (Int32.ofNat wide) (Int32.ofNat f) (Int32.ofNat f) (Int32.ofNat (min (f + wide) n)) (Int32.ofNat (min (f + 2 * wide) n)) y σ = rx a (Int32.ofNat n) (Int32.ofNat (wide * 2)) τ := fun y hy => by
        rw [xx8_sort_b189, xx8_merge, hy, g1, bd_so, oN_m2, oN_add, lt]
        exact r1
      rw [xx8_sort_b143, if_neg nf, oN_add, minN_x (by omega) (by omega), bd_so]
      dsimp only
      rw [oN_m2, oN_add, minN_x (by omega) (by omega), bd_so, if_neg nz, show (inB 0 20001) = true from by decide, gd_tt]
      dsimp only
      rw [show (0 : Int32).toNatClampNeg = 0 from by decide, e0]
      rcases hT with ⟨rfl, rfl⟩ | ⟨rfl, rfl⟩
      · rw [if_neg (show ¬ (3 : Int32) = 4 by decide), xx8_sort_b188]; exact mg 0 rfl
      · rw [if_pos rfl]; exact mg 1 rfl
    · have mg : mm_sort_159 N rm (mm_sort_114 N rm m') b (Int32.ofNat n) (Int32.ofNat wide) (Int32.ofNat f) (Int32.ofNat f) (Int32.ofNat (min (f + wide) n)) (Int32.ofNat (min (f + 2 * wide) n)) μ = rm b (Int32.ofNat n) (Int32.ofNat (wide * 2)) τm := by
        rw [mm_sort_159, mm_merge, g2, bd_so, oN_m2, oN_add, lt]
        exact r2
      have m139 : mm_sort_139 N rm (mm_sort_114 N rm m') b (Int32.ofNat n) (Int32.ofNat wide) (Int32.ofNat f) (Int32.ofNat f) (Int32.ofNat (min (f + wide) n)) μ = rm b (Int32.ofNat n) (Int32.ofNat (wide * 2)) τm := by
        rw [mm_sort_139, oN_m2, oN_add]
        by_cases c2 : n ≤ f + 2 * wide
        · rw [if_pos (by rw [oN_le (by omega) (by omega)]; exact c2)]
          rw [show min (f + 2 * wide) n = n from Nat.min_eq_right c2] at mg
          exact mg
        · rw [if_neg (oN_nle (by omega) (by omega))]
          rw [show min (f + 2 * wide) n = f + 2 * wide from Nat.min_eq_left (by omega)] at mg
          exact mg
      rw [mm_sort_114, if_neg nf, oN_add]
      by_cases c2 : n ≤ f + wide
      · rw [if_pos (by rw [oN_le (by omega) (by omega)]; exact c2)]
        rw [show min (f + wide) n = n from Nat.min_eq_right c2] at m139
        exact m139
      · rw [if_neg (oN_nle (by omega) (by omega))]
        rw [show min (f + wide) n = f + wide from Nat.min_eq_left (by omega)] at m139
        exact m139
/-- what is sorted goes back into the table -/
theorem back_2 {L : LQ} (E : EVok (lE L)) {w : WD} {a b : Int32} (h : (a, b) ∈ wT w) {T T' : Int32} {es es' : Int32 → List Int32} {n : Nat} (hn : n ≤ 20000) : ∀ (c k m m' : Nat) (σ μ : mS), k + c = n → c < m → c < m' → LC L w 0 σ μ → RT w σ μ es es' → SO w T T' n σ μ → (0 < n → σ.2.2.1 538 0 = T) → (∀ j : Int32, 1 ≤ j → j ≤ Int32.ofNat n → hKy σ (es a) j) → LO L w (xx8_sort_b226 (lNn L) m a (Int32.ofNat n) (Int32.ofNat k) σ) (mm_sort_225 (lNn L) m' b (Int32.ofNat n) (Int32.ofNat k) μ) := by
  intro c
  induction c with
  | zero =>
    intro k m m' σ μ hk hm hm' H R O e0 f
    obtain ⟨m, rfl⟩ : ∃ j, m = j + 1 := ⟨m - 1, by omega⟩
    obtain ⟨m', rfl⟩ : ∃ j, m' = j + 1 := ⟨m' - 1, by omega⟩
    have e : k = n := by omega
    subst e
    rw [xx8_sort_b226, mm_sort_225, if_pos (Int32.le_refl _), if_pos (Int32.le_refl _)]
    exact LO_ok H
  | succ c ih =>
    intro k m m' σ μ hk hm hm' H R O e0 f
    obtain ⟨m, rfl⟩ : ∃ j, m = j + 1 := ⟨m - 1, by omega⟩
    obtain ⟨m', rfl⟩ : ∃ j, m' = j + 1 := ⟨m' - 1, by omega⟩
    obtain ⟨o1, o2⟩ := O k (by omega)
    obtain ⟨τ, τm, p1, p2, p3, p4, p5, p6, p7⟩ := putF_L E H R h o2 (f (Int32.ofNat (k + 1)) (by rw [show (1 : Int32) = Int32.ofNat 1 from rfl, oN_le (by omega) (by omega)]; omega) (by rw [oN_le (by omega) (by omega)]; omega))
    have nk : ¬ Int32.ofNat n ≤ Int32.ofNat k := oN_nle (by omega) (by omega)
    have recu := ih (k + 1) m m' τ τm (by omega) (by omega) (by omega) p3 p4 (SO_fr O p5 p6 (qX_f (by omega)) (mZ_f (by omega)) (mZ_f (by omega))) (fun q => by rw [p5.2.2.1 538 (qX_f (by omega))]; exact e0 q) (fun j j1 j2 => p7 j (f j j1 j2))
    rw [xx8_sort_b226, if_neg nk, show (inB 0 20001) = true from by decide, gd_tt, gd_oN (by omega) (by decide), show (0 : Int32).toNatClampNeg = 0 from by decide, e0 (by omega), oN_cl (by omega), oL_s (by omega), p1, bx_so, mm_sort_225, if_neg nk, gd_oN (by omega) (by decide), gd_oN (by omega) (by decide), oN_cl (by omega), oL_s (by omega), o1, p2, bd_so, lt, lt, oN_s]
    exact recu
theorem all_2 {L : LQ} (E : EVok (lE L)) {w : WD} {a b : Int32} (h : (a, b) ∈ wT w) {T T' : Int32} (hT : TK T T') {es es' : Int32 → List Int32} {n : Nat} (hn : n ≤ 20000) : ∀ (c wide m m' : Nat) (σ μ : mS), n ≤ wide + c → c < m → c < m' → 1 ≤ wide → wide ≤ 40000 → LC L w 0 σ μ → RT w σ μ es es' → SO w T T' n σ μ → (0 < n → σ.2.2.1 538 0 = T) → (∀ j : Int32, 1 ≤ j → j ≤ Int32.ofNat n → hKy σ (es a) j) → LO L w (xx8_sort_b135 (lNn L) m a (Int32.ofNat n) (Int32.ofNat wide) σ) (mm_sort_106 (lNn L) m' b (Int32.ofNat n) (Int32.ofNat wide) μ) := by
  have big : 200000 < lNn L := by
    have := EV_N E
    simp only [BIG] at this
    show 200000 < eN (lE L)
    omega
  intro c
  induction c with
  | zero =>
    intro wide m m' σ μ hk hm hm' w1 w2 H R O e0 f
    obtain ⟨m, rfl⟩ : ∃ j, m = j + 1 := ⟨m - 1, by omega⟩
    obtain ⟨m', rfl⟩ : ∃ j, m' = j + 1 := ⟨m' - 1, by omega⟩
    have nf : Int32.ofNat n ≤ Int32.ofNat wide := by rw [oN_le (by omega) (by omega)]; omega
    rw [xx8_sort_b135, mm_sort_106, if_pos nf, if_pos nf]
    exact back_2 E h hn n 0 (lNn L) (lNn L) σ μ (by omega) (by omega) (by omega) H R O e0 f
  | succ c ih =>
    intro wide m m' σ μ hk hm hm' w1 w2 H R O e0 f
    by_cases fc : n ≤ wide + c
    · exact ih wide m m' σ μ fc (by omega) (by omega) w1 w2 H R O e0 f
    obtain ⟨m, rfl⟩ : ∃ j, m = j + 1 := ⟨m - 1, by omega⟩
    obtain ⟨m', rfl⟩ : ∃ j, m' = j + 1 := ⟨m' - 1, by omega⟩
    have nf : ¬ Int32.ofNat n ≤ Int32.ofNat wide := oN_nle (by omega) (by omega)
    obtain ⟨τ, τm, r1, r2, r3, r4, r5⟩ := pass_2 (EV_N E) hT (rx := xx8_sort_b135 (lNn L) m) (rm := mm_sort_106 (lNn L) m') (a := a) (b := b) hn (by omega) w1 w2 n 0 (lNn L) (lNn L) σ μ (by omega) (by omega) (by omega) (by omega) (LC_TS H.1).1 O (e0 (by omega)) (fun j j0 j1 => absurd j1 (by omega))
    have ux : m_fr uX σ τ := mf_mono r3 (fun k hk => sXs_f (by
      have := hk
      simp only [uX, inR, Bool.or_eq_false_iff, Bool.and_eq_false_iff, decide_eq_false_iff_not] at this
      omega))
    have um : m_fr uM μ τm := mf_mono r4 (fun k hk => sM_f (by
      have := hk
      simp only [uM, inR, Bool.or_eq_false_iff, Bool.and_eq_false_iff, decide_eq_false_iff_not] at this
      omega))
    have H1 : LC L w 0 τ τm := LC_u H ux um
    have R1 : RT w τ τm es es' := RT_fr R wle_rfl rfl r3 r4 (fun k hk => sXs_f (by omega)) (fun k hk => sM_f (by omega))
    have r1' : xx8_sort_b143 (lNn L) (xx8_sort_b135 (lNn L) m) (lNn L) a (Int32.ofNat n) (Int32.ofNat wide) 0 σ = _ := r1
    have r2' : mm_sort_114 (lNn L) (mm_sort_106 (lNn L) m') (lNn L) b (Int32.ofNat n) (Int32.ofNat wide) 0 μ = _ := r2
    rw [xx8_sort_b135, mm_sort_106, if_neg nf, if_neg nf, r1', r2']
    exact ih (wide * 2) m m' τ τm (by omega) (by omega) (by omega) (by omega) (by omega) H1 R1 r5 (fun q => by rw [r3.2.2.1 538 (sXs_f (by omega))]; exact e0 q) (fun j j1 j2 => hK_fr (f j j1 j2) r3 (sXs_f (by omega)) (sXs_f (by omega)))
