/-! LAYER 2: the two sides: a string is made -/
theorem gd_s {α : Type} {b : Bool} {k : Option α} {x : α} (h : gd b k = some x) : k = some x := by
  cases b
  · simp [gd] at h
  · exact h
def nq (k : Nat) : Bool := k != 142
theorem mk142_lp {N : Nat} {v1 : Nat} {v2 v3 v4 a : Int32} {τ : mS} : ∀ (n : Nat) (v5 v6 : Int32) (σ : mS), xx2_make_b110 N n v1 v2 v3 v4 v5 v6 σ = some (.ok (a, τ)) → m_fr nq σ τ := by
  intro n
  induction n with
  | zero => intro v5 v6 σ h; simp [xx2_make_b110] at h
  | succ n ih =>
    intro v5 v6 σ h
    rw [xx2_make_b110] at h
    split at h
    · have h1 := gd_s h
      simp only [lt, Option.some.injEq, Except.ok.injEq, Prod.mk.injEq] at h1
      rw [← h1.2]
      exact mf_pi (mf_pi (mf_ai mf_rfl rfl) rfl) rfl
    · have h1 := gd_s (gd_s (gd_s h))
      simp only [lt] at h1
      have h2 := gd_s (gd_s h1)
      simp only [xx2_mix, bd] at h2
      exact mf_tr (mf_ai mf_rfl rfl) (ih _ _ _ h2)
theorem mk142 {N : Nat} {v1 : Nat} {v2 v3 a : Int32} {σ τ : mS} (h : xx2_make N σ v1 v2 v3 = some (.ok (a, τ))) : m_fr nq σ τ := by
  have key : ∀ (v4 : Int32) (σ : mS), xx2_make_b79 N v1 v2 v3 v4 σ = some (.ok (a, τ)) → m_fr nq σ τ := fun v4 σ h => by
    rw [xx2_make_b79] at h
    simp only [lt] at h
    have h1 := gd_s (gd_s h)
    exact mf_tr (mf_ai (mf_ai (mf_pi mf_rfl rfl) rfl) rfl) (mk142_lp _ _ _ _ h1)
  rw [xx2_make] at h
  split at h
  · simp [xx2_make_b21] at h
  · split at h
    · simp only [lt] at h
      have h1 := gd_s (gd_s h)
      split at h1
      · exact mf_tr (mf_pi (mf_ai (mf_pi mf_rfl rfl) rfl) rfl) (key _ _ h1)
      · exact mf_tr (mf_ai (mf_ai (mf_pi mf_rfl rfl) rfl) rfl) (key _ _ (gd_s h1))
    · simp [xx2_make_b21] at h
theorem mkNB_lp {N : Nat} {v1 : Nat} {v2 v3 v4 a : Int32} {τ : mS} : ∀ (n : Nat) (v5 v6 : Int32) (σ : mS), NB σ → xx2_make_b110 N n v1 v2 v3 v4 v5 v6 σ = some (.ok (a, τ)) → NB τ := by
  intro n
  induction n with
  | zero => intro v5 v6 σ _ h; simp [xx2_make_b110] at h
  | succ n ih =>
    intro v5 v6 σ H h
    rw [xx2_make_b110] at h
    split at h
    · have h1 := gd_s h
      simp only [lt, Option.some.injEq, Except.ok.injEq, Prod.mk.injEq] at h1
      rw [← h1.2]
      exact NB_fr (P := fun k => [130, 141, 140].contains k) H (mf_pi (mf_pi (mf_ai mf_rfl rfl) rfl) rfl) rfl rfl
    · have h1 := gd_s (gd_s (gd_s h))
      simp only [lt] at h1
      have h2 := gd_s (gd_s h1)
      simp only [xx2_mix, bd] at h2
      exact ih _ _ _ (NB_ai H) h2
theorem mkNB {N : Nat} {v1 : Nat} {v2 v3 a : Int32} {σ τ : mS} (H : NB σ) (h : xx2_make N σ v1 v2 v3 = some (.ok (a, τ))) : NB τ := by
  have key : ∀ (v4 : Int32) (σ : mS), NB σ → xx2_make_b79 N v1 v2 v3 v4 σ = some (.ok (a, τ)) → NB τ := fun v4 σ H h => by
    rw [xx2_make_b79] at h
    simp only [lt] at h
    have h1 := gd_s (gd_s h)
    exact mkNB_lp _ _ _ _ (NB_fr (P := fun k => [138, 128, 129].contains k) H (mf_ai (mf_ai (mf_pi mf_rfl rfl) rfl) rfl) rfl rfl) h1
  rw [xx2_make] at h
  split at h
  · simp [xx2_make_b21] at h
  · split at h
    · simp only [lt] at h
      have h1 := gd_s (gd_s h)
      split at h1
      · exact key _ _ (NB_fr (P := fun k => [139, 136, 137].contains k) H (mf_pi (mf_ai (mf_pi mf_rfl rfl) rfl) rfl) rfl rfl) h1
      · exact key _ _ (NB_fr (P := fun k => [139, 136].contains k) H (mf_ai (mf_ai (mf_pi mf_rfl rfl) rfl) rfl) rfl rfl) (gd_s h1)
    · simp [xx2_make_b21] at h
theorem xfr_m {σ τ : mS} (h : x_fr 2 σ τ) (h' : m_fr nq σ τ) : m_fr sK σ τ := by
  have e : ∀ k, sK k = false → k / 64 ≠ 2 ∨ nq k = false := fun k hk => by
    simp only [sK, Bool.and_eq_false_iff, beq_eq_false_iff_ne, bne_eq_false_iff_eq] at hk
    rcases hk with hk | hk
    · exact .inl hk
    · right; subst hk; rfl
  exact ⟨fun k hk => (e k hk).elim (h.1 k) (h'.1 k), fun k hk => (e k hk).elim (h.2.1 k) (h'.2.1 k), fun k hk => (e k hk).elim (h.2.2.1 k) (h'.2.2.1 k), fun k hk => (e k hk).elim (h.2.2.2 k) (h'.2.2.2 k)⟩
def wAddS (w : WD) (a b : Int32) : WD := (wS w ++ [(a, b)], w.2)
theorem wAddS_le {w : WD} {a b : Int32} : wle w (wAddS w a b) := ⟨fun p h => List.mem_append_left _ h, fun _ h => h, fun _ h => h, fun _ h => h, fun _ h => h, fun _ h => h⟩
theorem wAddS_ok {w : WD} {a b : Int32} (h : WOK w) : WOK (wAddS w a b) := h
theorem make_2 {N : Nat} (hN : BIG ≤ N) {w : WD} {σ μ : mS} {v : Nat} {p n L : Int32} (S : RS w σ μ) (hv : x_ba v L) (hne : v ≠ 128 ∧ v ≠ 129 ∧ v ≠ 131 ∧ v ≠ 136) (p0 : 0 ≤ p) (n0 : 0 ≤ n) (n1 : n ≤ 4400) (pn : p ≤ p + n) (pL : p + n ≤ L) (hn : sF μ 17 = n) (hb : ∀ k, 0 ≤ k → k < n → sI σ v (p + k) &&& 255 = sI μ 16 k &&& 255) :
    (xx2_make N σ v p n = some (.error (1101, σ)) ∧ mm_makeString N μ = bd (mm_breakOff N μ 3) (fun z => some (-1, z)))
    ∨ (∃ a b τ τm, xx2_make N σ v p n = some (.ok (a, τ)) ∧ mm_makeString N μ = some (b, τm) ∧ RS (wAddS w a b) τ τm ∧ 0 ≤ a ∧ a < 12000 ∧ 30000 ≤ b ∧ b < 42000 ∧ m_fr sK σ τ ∧ m_fr sN μ τm ∧ sF σ 134 ≤ sF τ 134 ∧ (∀ c d, (c, d) ∈ wS w ∨ (c, d) ∈ wX w → x_sm σ τ c ∧ m_sm μ τm d) ∧ sF τ 140 = sF σ 140 + 1 ∧ sF τm 13 = sF μ 13 + 1 ∧ x_sz τ a = n) := by
  obtain ⟨⟨f, S1⟩, ⟨sl, S2⟩, S3, ⟨bk, S4⟩, S5, S6, S7, S8⟩ := S
  have lS := S1.1.2.2.2.2.2.2
  have lM := S3.1.2.2.2.2.2.2
  rw [List.length_map] at lS lM
  have z1 : (12000 : Int32).toInt = 12000 := rfl
  have z0 : (0 : Int32).toInt = 0 := rfl
  have cnt : sF σ 140 = 12000 ↔ sF μ 15 = 0 := by
    rw [tI_eq, tI_eq, z1, z0]
    omega
  by_cases c : sF σ 140 = 12000 ∨ 300000 < sF σ 141 + n
  · left
    refine ⟨make_x0 c, make_m0 ?_⟩
    rcases c with c | c
    · exact .inl (cnt.mp c)
    · right; rw [hn, ← S7]; exact c
  · right
    have c1 : sF σ 140 ≠ 12000 := fun q => c (.inl q)
    have c2 : sF σ 141 + n ≤ 300000 := by lia
    obtain ⟨a, τ, e1, f', e2, e3, e4, e5, e6, e7, e8, e9, e10, e11, e12, e13, e14, e15, e16⟩ := make_x hN S1 hv hne p0 n0 (by lia) pn pL c1 c2
    obtain ⟨b, τm, g1, g2, g3, g4, g5, g6, g7, g8, g9, g10, g11⟩ := make_m hN S3 (by rw [hn]; exact n0) (by rw [hn]; exact n1) (fun q => c1 (cnt.mpr q)) (by rw [hn, ← S7]; exact c2)
    rw [hn] at g6 g7 g8
    have A1 := S4.1
    have A2 := S4.2.1
    have T1 := S2.1
    have smx : ∀ c d, (c, d) ∈ wS w ∨ (c, d) ∈ wX w → x_sm σ τ c ∧ m_sm μ τm d := fun c d h => by
      rcases h with h | h
      · have hc : c ∈ (wS w).map Prod.fst := List.mem_map.mpr ⟨(c, d), h, rfl⟩
        have hd : d ∈ (wS w).map Prod.snd := List.mem_map.mpr ⟨(c, d), h, rfl⟩
        have d0 := (SM_mem S3 hd).2.1
        exact ⟨e15 c (.inl hc), g10 d (by lia) (.inl hd)⟩
      · obtain ⟨x1, x2, x3, x4⟩ := S5 c d h
        exact ⟨e15 c (.inr x1), g10 d x3 (.inr (by lia))⟩
    have fr : m_fr sK σ τ := xfr_m e16 (mk142 e1)
    have frm : m_fr sN μ τm := mf_mono g11 (fun k hk => by
      simp only [sN, List.contains_cons, List.contains_nil, Bool.or_eq_false_iff] at hk ⊢
      obtain ⟨q2, q3, q4, q5, q6, q7, q8, q9, q10, q12, q13, q15, _⟩ := hk
      exact ⟨q2, q3, q4, q10, q12, q13, q15, trivial⟩)
    refine ⟨a, b, τ, τm, e1, g1, ⟨⟨f', ?_⟩, ⟨sl, ?_⟩, ?_, ⟨bk, ?_⟩, fun c d h => ?_, fun c d h => ?_, by rw [e9, g8, S7], mkNB S8 e1⟩, e5, e6, g4, g5, fr, frm, by rw [e12]; lia, smx, e10, g9, e7⟩
    · simp only [wS, wAddS, List.map_append, List.map_cons, List.map_nil]
      exact e3
    · -- strings of texts stay
      obtain ⟨t1, t2, t3, t4, t5, t6, t7, t8, t9, t10, t11, t12⟩ := S2
      have sm : ∀ g, 12000 ≤ g → x_sm σ τ g := fun g g0 => e15 g (.inr g0)
      have i135 : sI τ 135 = sI σ 135 := by funext m; exact e14 m
      simp only [TX]
      rw [e11, e12, i135]
      refine ⟨t1, t2, t3, t4, ?_, fun h h0 h1 => ?_, fun h h0 h1 h2 => ?_, fun g h g0 gh h1 => ?_, fun q => ?_, ⟨t10.1, fun q => ?_⟩, fun g h g0 g1 h0 h1 q => ?_, fun m m0 m1 => ?_⟩
      · refine ⟨fun h h0 h1 => ?_, t5.2⟩
        have := t5.1 h h0 h1
        rw [(sm h h0).2.2.1]
        exact this
      · obtain ⟨q1, q2, q3, q4, q5, q6⟩ := t6 h h0 h1
        have s := sm h h0
        rw [s.1, s.2.1]
        exact ⟨q1, q2, q3, q4, q5, sm_hs s q2 q6⟩
      · rw [(sm h h0).1, (sm h h0).2.1, (sm (h + 1) (by lia)).1]; exact t7 h h0 h1 h2
      · rw [(sm g g0).1, (sm g g0).2.1, (sm h (by lia)).1]; exact t8 g h g0 gh h1
      · rw [(sm _ (by lia)).1, (sm _ (by lia)).2.1]; exact t9 q
      · rw [(sm 12000 (by decide)).1]; exact t10.2 q
      · exact t11 g h g0 g1 h0 h1 ((sm_eq (sm g g0) (sm h h0)).mp q)
      · rw [e13]; exact t12 m m0 m1
    · simp only [wS, wAddS, List.map_append, List.map_cons, List.map_nil]
      exact g2
    · obtain ⟨t1, t2, t3, t4, t5, t6, t7⟩ := S4
      have q5 : sF τm 5 = sF μ 5 := mf_F g11 rfl
      have q6 : sF τm 6 = sF μ 6 := mf_F g11 rfl
      have i7 : ∀ m, sI τm 7 m = sI μ 7 m := fun m => mf_I g11 rfl
      have i8 : ∀ m, sI τm 8 m = sI μ 8 m := fun m => mf_I g11 rfl
      have i9 : ∀ m, sI τm 9 m = sI μ 9 m := fun m => mf_I g11 rfl
      have sm : ∀ s, 0 ≤ s → s < sF μ 5 → m_sm μ τm s := fun s s0 s1 => g10 s s0 (.inr (by lia))
      simp only [TM]
      rw [q5, q6]
      refine ⟨t1, t2, t3, t4, fun x x0 x1 => ?_, fun s s0 s1 => ?_, fun m m0 m1 => by rw [i7]; exact t7 m m0 m1⟩
      · obtain ⟨u1, u2, u3⟩ := t5 x x0 x1
        simp only [i8, i9]
        refine ⟨u1, u2, fun s => (u3 s).trans ⟨?_, ?_⟩⟩
        · rintro ⟨s0, s1, s2⟩
          exact ⟨s0, s1, by rw [(sm s s0 s1).2.2.1]; exact s2⟩
        · rintro ⟨s0, s1, s2⟩
          rw [(sm s s0 s1).2.2.1] at s2
          exact ⟨s0, s1, s2⟩
      · obtain ⟨q1, q2, q3, q4, q5, q6⟩ := t6 s s0 s1
        have h := sm s s0 s1
        rw [h.1, h.2.1]
        exact ⟨q1, q2, q3, q4, q5, msm_hs h q2 q6⟩
    · have := S5 c d h
      rw [e12, mf_F g11 rfl]
      exact this
    · have old : (c, d) ∈ wS w ∨ (c, d) ∈ wX w → x_sz τ c = m_sz τm d ∧ ∀ k, 0 ≤ k → k < x_sz τ c → x_by τ c k = m_by τm d k := fun h => by
        obtain ⟨s, sm⟩ := smx c d h
        obtain ⟨q1, q2⟩ := S6 c d h
        have zs : x_sz τ c = x_sz σ c := s.2.1
        have zm : m_sz τm d = m_sz μ d := sm.2.1
        refine ⟨by rw [zs, zm]; exact q1, fun k k0 k1 => ?_⟩
        rw [zs] at k1
        have k2 : k < m_sz μ d := by rw [← q1]; exact k1
        rw [s.2.2.2 k k0 k1, sm.2.2.2 k k0 k2]
        exact q2 k k0 k1
      rcases h with h | h
      · rcases List.mem_append.mp h with q | q
        · exact old (.inl q)
        · have : (c, d) = (a, b) := by simpa using q
          obtain ⟨rfl, rfl⟩ := Prod.mk.inj this
          refine ⟨by rw [e7, g6], fun k k0 k1 => ?_⟩
          rw [e7] at k1
          rw [e8 k k0 k1, g7 k k0 k1, hb k k0 k1]
      · exact old (.inr h)
