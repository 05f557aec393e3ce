/-! LAYER 2: what is given -/
theorem nar_tg {t : Int32} (h0 : 0 ≤ t) (h1 : t ≤ 8) : vp_nar .byte t = t := by
  have e := nar_tag h0 h1
  have : isB t := by
    rw [← e]
    exact B_nar _
  exact nar_B this
def GV (w : WD) (σ μ : mS) (n : Int32) : Prop := sF σ 402 = n ∧ sF μ 190 = n ∧ 0 ≤ n ∧ n ≤ 101 ∧ ∀ k, 0 ≤ k → k < n → VV w (sI σ 400 k) (sJ σ 401 k) (sI μ 188 k) (sJ μ 189 k)
def vK (k : Nat) : Bool := [400, 401, 402].contains k
def vM (k : Nat) : Bool := [188, 189, 190].contains k
theorem GV_fr {P Q : Nat → Bool} {w w' : WD} {σ μ τ τm : mS} {n : Int32} (H : GV w σ μ n) (wl : wle w w') (fr : m_fr P σ τ) (frm : m_fr Q μ τm) (p0 : P 400 = false) (p1 : P 401 = false) (p2 : P 402 = false) (q0 : Q 188 = false) (q1 : Q 189 = false) (q2 : Q 190 = false) : GV w' τ τm n := by
  obtain ⟨h1, h2, h3, h4, h5⟩ := H
  refine ⟨by rw [mf_F fr p2]; exact h1, by rw [mf_F frm q2]; exact h2, h3, h4, fun k k0 k1 => ?_⟩
  rw [mf_I fr p0, mf_J fr p1, mf_I frm q0, mf_J frm q1]
  exact VV_mono wl (h5 k k0 k1)
theorem gb_lp {N : Nat} {σ : mS} {n t : Int32} (n1 : n ≤ 100) (t0 : 0 ≤ t) (t1 : t ≤ 8) (tg : ∀ k, 0 ≤ k → k < n → 0 ≤ sI σ 400 k ∧ sI σ 400 k ≤ 8) (hn : sF σ 402 = n) (j : Nat) (i : Int32) (i0 : 0 ≤ i) (i1 : i ≤ n) (hj : (i.toInt - (0 : Int32).toInt).toNat < j) : ∀ τ : mS, m_fr vK σ τ → sF τ 402 = n → (∀ k, 0 ≤ k → k ≤ n → sI τ 400 k = (if i < k then sI σ 400 (k - 1) else sI σ 400 k) ∧ sJ τ 401 k = (if i < k then sJ σ 401 (k - 1) else sJ σ 401 k)) → ∃ υ, xx6_giveBefore_b21 N j t i τ = some (.ok υ) ∧ m_fr vK σ υ ∧ sF υ 402 = n + 1 ∧ (∀ k, 1 ≤ k → k ≤ n → sI υ 400 k = sI σ 400 (k - 1) ∧ sJ υ 401 k = sJ σ 401 (k - 1)) ∧ sI υ 400 0 = t ∧ sJ υ 401 0 = 0 := by
  refine loop_dn (lo := 0) (m := n) (fun j i => ∀ τ : mS, m_fr vK σ τ → sF τ 402 = n → (∀ k, 0 ≤ k → k ≤ n → sI τ 400 k = (if i < k then sI σ 400 (k - 1) else sI σ 400 k) ∧ sJ τ 401 k = (if i < k then sJ σ 401 (k - 1) else sJ σ 401 k)) → ∃ υ, xx6_giveBefore_b21 N j t i τ = some (.ok υ) ∧ m_fr vK σ υ ∧ sF υ 402 = n + 1 ∧ (∀ k, 1 ≤ k → k ≤ n → sI υ 400 k = sI σ 400 (k - 1) ∧ sJ υ 401 k = sJ σ 401 (k - 1)) ∧ sI υ 400 0 = t ∧ sJ υ 401 0 = 0) ?_ j i i0 i1 hj
  clear hj i0 i1 i j
  intro j i i0 i1 ih τ fr f2 hh
  by_cases c : i ≤ 0
  · have ei : i = 0 := by lia
    subst ei
    simp (disch := lia) only [xx6_giveBefore_b21, lt, gd_in, if_pos, if_neg, ↓reduceIte, gd_z0, gd_z1, gd_tt, sF_fold, sG_fold, sI_fold, sJ_fold, sF_pi, sF_pl, sF_ai, sF_al, sG_pi, sG_pl, sG_ai, sG_al, sI_pi, sI_pl, sI_al, sI_ai1, sI_ai2, sJ_pi, sJ_pl, sJ_ai, sJ_al1, sJ_al2, Nat.reduceEqDiff, if_true, if_false, ne_eq, not_false_eq_true, ite_true, ite_false, f2, nar_tag]
    refine ⟨_, rfl, mf_pi (mf_al (mf_ai fr rfl) rfl) rfl, ?_, fun k k0 k1 => ?_, ?_, ?_⟩
    · simp only [sF_pi, sF_pl, sF_ai, sF_al, sG_pi, sG_pl, sG_ai, sG_al, sI_pi, sI_pl, sI_al, sI_ai1, sI_ai2, sJ_pi, sJ_pl, sJ_ai, sJ_al1, sJ_al2, Nat.reduceEqDiff, if_true, if_false, ne_eq, not_false_eq_true, ite_true, ite_false]
    · have a := hh k (by lia) k1
      rw [if_pos (by lia), if_pos (by lia)] at a
      simp (disch := lia) only [sF_pi, sF_pl, sF_ai, sF_al, sG_pi, sG_pl, sG_ai, sG_al, sI_pi, sI_pl, sI_al, sI_ai1, sI_ai2, sJ_pi, sJ_pl, sJ_ai, sJ_al1, sJ_al2, Nat.reduceEqDiff, if_true, if_false, ne_eq, not_false_eq_true, ite_true, ite_false]
      simp (disch := lia) only [sI_ai, sJ_al, true_and, sF_pi, sF_pl, sF_ai, sF_al, sG_pi, sG_pl, sG_ai, sG_al, sI_pi, sI_pl, sI_al, sI_ai1, sI_ai2, sJ_pi, sJ_pl, sJ_ai, sJ_al1, sJ_al2, Nat.reduceEqDiff, if_true, if_false, ne_eq, not_false_eq_true, ite_true, ite_false]
      rw [if_neg (by lia), if_neg (by lia)]
      exact a
    · simp (disch := lia) only [sF_pi, sF_pl, sF_ai, sF_al, sG_pi, sG_pl, sG_ai, sG_al, sI_pi, sI_pl, sI_al, sI_ai1, sI_ai2, sJ_pi, sJ_pl, sJ_ai, sJ_al1, sJ_al2, Nat.reduceEqDiff, if_true, if_false, ne_eq, not_false_eq_true, ite_true, ite_false]
    · simp (disch := lia) only [sF_pi, sF_pl, sF_ai, sF_al, sG_pi, sG_pl, sG_ai, sG_al, sI_pi, sI_pl, sI_al, sI_ai1, sI_ai2, sJ_pi, sJ_pl, sJ_ai, sJ_al1, sJ_al2, Nat.reduceEqDiff, if_true, if_false, ne_eq, not_false_eq_true, ite_true, ite_false]
  · have a := hh (i - 1) (by lia) (by lia)
    rw [if_neg (by lia), if_neg (by lia)] at a
    have g := tg (i - 1) (by lia) (by lia)
    have e1 : i + -1 = i - 1 := by lia
    simp (disch := lia) only [xx6_giveBefore_b21, lt, gd_in, if_pos, if_neg, ↓reduceIte, gd_z0, gd_z1, gd_tt, sF_fold, sG_fold, sI_fold, sJ_fold, sF_pi, sF_pl, sF_ai, sF_al, sG_pi, sG_pl, sG_ai, sG_al, sI_pi, sI_pl, sI_al, sI_ai1, sI_ai2, sJ_pi, sJ_pl, sJ_ai, sJ_al1, sJ_al2, Nat.reduceEqDiff, if_true, if_false, ne_eq, not_false_eq_true, ite_true, ite_false, a.1, a.2, nar_tg, e1]
    refine ih (by lia) _ (mf_al (mf_ai fr rfl) rfl) (by simp only [sF_pi, sF_pl, sF_ai, sF_al, sG_pi, sG_pl, sG_ai, sG_al, sI_pi, sI_pl, sI_al, sI_ai1, sI_ai2, sJ_pi, sJ_pl, sJ_ai, sJ_al1, sJ_al2, Nat.reduceEqDiff, if_true, if_false, ne_eq, not_false_eq_true, ite_true, ite_false]; exact f2) (fun k k0 k1 => ?_)
    have b := hh k k0 k1
    simp (disch := lia) only [sF_pi, sF_pl, sF_ai, sF_al, sG_pi, sG_pl, sG_ai, sG_al, sI_pi, sI_pl, sI_al, sI_ai1, sI_ai2, sJ_pi, sJ_pl, sJ_ai, sJ_al1, sJ_al2, Nat.reduceEqDiff, if_true, if_false, ne_eq, not_false_eq_true, ite_true, ite_false, sI_ai i0 k0, sJ_al i0 k0, true_and, false_and]
    by_cases q : k = i
    · subst q
      rw [if_pos rfl, if_pos rfl, if_pos (by lia), if_pos (by lia)]
      exact ⟨rfl, rfl⟩
    · rw [if_neg q, if_neg q, b.1, b.2]
      by_cases z : i < k
      · rw [if_pos z, if_pos z, if_pos (by lia), if_pos (by lia)]; exact ⟨rfl, rfl⟩
      · rw [if_neg z, if_neg z, if_neg (by lia), if_neg (by lia)]; exact ⟨rfl, rfl⟩
theorem mb_lp {N : Nat} {σ : mS} {n t : Int32} {v : Int64} (n1 : n ≤ 100) (t0 : 0 ≤ t) (t1 : t ≤ 8) (tg : ∀ k, 0 ≤ k → k < n → 0 ≤ sI σ 188 k ∧ sI σ 188 k ≤ 8) (hn : sF σ 190 = n) (j : Nat) (i : Int32) (i0 : 0 ≤ i) (i1 : i ≤ n) (hj : (i.toInt - (0 : Int32).toInt).toNat < j) : ∀ τ : mS, m_fr vM σ τ → sF τ 190 = n → (∀ k, 0 ≤ k → k ≤ n → sI τ 188 k = (if i < k then sI σ 188 (k - 1) else sI σ 188 k) ∧ sJ τ 189 k = (if i < k then sJ σ 189 (k - 1) else sJ σ 189 k)) → ∃ υ, mm_before_6 N j t v i τ = some υ ∧ m_fr vM σ υ ∧ sF υ 190 = n + 1 ∧ (∀ k, 1 ≤ k → k ≤ n → sI υ 188 k = sI σ 188 (k - 1) ∧ sJ υ 189 k = sJ σ 189 (k - 1)) ∧ sI υ 188 0 = t ∧ sJ υ 189 0 = v := by
  refine loop_dn (lo := 0) (m := n) (fun j i => ∀ τ : mS, m_fr vM σ τ → sF τ 190 = n → (∀ k, 0 ≤ k → k ≤ n → sI τ 188 k = (if i < k then sI σ 188 (k - 1) else sI σ 188 k) ∧ sJ τ 189 k = (if i < k then sJ σ 189 (k - 1) else sJ σ 189 k)) → ∃ υ, mm_before_6 N j t v i τ = some υ ∧ m_fr vM σ υ ∧ sF υ 190 = n + 1 ∧ (∀ k, 1 ≤ k → k ≤ n → sI υ 188 k = sI σ 188 (k - 1) ∧ sJ υ 189 k = sJ σ 189 (k - 1)) ∧ sI υ 188 0 = t ∧ sJ υ 189 0 = v) ?_ j i i0 i1 hj
  clear hj i0 i1 i j
  intro j i i0 i1 ih τ fr f2 hh
  by_cases c : i ≤ 0
  · have ei : i = 0 := by lia
    subst ei
    simp (disch := lia) only [mm_before_6, lt, gd_in, if_pos, if_neg, ↓reduceIte, gd_z0, gd_z1, gd_tt, sF_fold, sG_fold, sI_fold, sJ_fold, sF_pi, sF_pl, sF_ai, sF_al, sG_pi, sG_pl, sG_ai, sG_al, sI_pi, sI_pl, sI_al, sI_ai1, sI_ai2, sJ_pi, sJ_pl, sJ_ai, sJ_al1, sJ_al2, Nat.reduceEqDiff, if_true, if_false, ne_eq, not_false_eq_true, ite_true, ite_false, f2, nar_tag]
    refine ⟨_, rfl, mf_pi (mf_al (mf_ai fr rfl) rfl) rfl, ?_, fun k k0 k1 => ?_, ?_, ?_⟩
    · simp only [sF_pi, sF_pl, sF_ai, sF_al, sG_pi, sG_pl, sG_ai, sG_al, sI_pi, sI_pl, sI_al, sI_ai1, sI_ai2, sJ_pi, sJ_pl, sJ_ai, sJ_al1, sJ_al2, Nat.reduceEqDiff, if_true, if_false, ne_eq, not_false_eq_true, ite_true, ite_false]
    · have a := hh k (by lia) k1
      rw [if_pos (by lia), if_pos (by lia)] at a
      simp (disch := lia) only [sF_pi, sF_pl, sF_ai, sF_al, sG_pi, sG_pl, sG_ai, sG_al, sI_pi, sI_pl, sI_al, sI_ai1, sI_ai2, sJ_pi, sJ_pl, sJ_ai, sJ_al1, sJ_al2, Nat.reduceEqDiff, if_true, if_false, ne_eq, not_false_eq_true, ite_true, ite_false]
      simp (disch := lia) only [sI_ai, sJ_al, true_and, sF_pi, sF_pl, sF_ai, sF_al, sG_pi, sG_pl, sG_ai, sG_al, sI_pi, sI_pl, sI_al, sI_ai1, sI_ai2, sJ_pi, sJ_pl, sJ_ai, sJ_al1, sJ_al2, Nat.reduceEqDiff, if_true, if_false, ne_eq, not_false_eq_true, ite_true, ite_false]
      rw [if_neg (by lia), if_neg (by lia)]
      exact a
    · simp (disch := lia) only [sF_pi, sF_pl, sF_ai, sF_al, sG_pi, sG_pl, sG_ai, sG_al, sI_pi, sI_pl, sI_al, sI_ai1, sI_ai2, sJ_pi, sJ_pl, sJ_ai, sJ_al1, sJ_al2, Nat.reduceEqDiff, if_true, if_false, ne_eq, not_false_eq_true, ite_true, ite_false]
    · simp (disch := lia) only [sF_pi, sF_pl, sF_ai, sF_al, sG_pi, sG_pl, sG_ai, sG_al, sI_pi, sI_pl, sI_al, sI_ai1, sI_ai2, sJ_pi, sJ_pl, sJ_ai, sJ_al1, sJ_al2, Nat.reduceEqDiff, if_true, if_false, ne_eq, not_false_eq_true, ite_true, ite_false]
  · have a := hh (i - 1) (by lia) (by lia)
    rw [if_neg (by lia), if_neg (by lia)] at a
    have g := tg (i - 1) (by lia) (by lia)
    have e1 : i + -1 = i - 1 := by lia
    simp (disch := lia) only [mm_before_6, lt, gd_in, if_pos, if_neg, ↓reduceIte, gd_z0, gd_z1, gd_tt, sF_fold, sG_fold, sI_fold, sJ_fold, sF_pi, sF_pl, sF_ai, sF_al, sG_pi, sG_pl, sG_ai, sG_al, sI_pi, sI_pl, sI_al, sI_ai1, sI_ai2, sJ_pi, sJ_pl, sJ_ai, sJ_al1, sJ_al2, Nat.reduceEqDiff, if_true, if_false, ne_eq, not_false_eq_true, ite_true, ite_false, a.1, a.2, nar_tg, e1]
    refine ih (by lia) _ (mf_al (mf_ai fr rfl) rfl) (by simp only [sF_pi, sF_pl, sF_ai, sF_al, sG_pi, sG_pl, sG_ai, sG_al, sI_pi, sI_pl, sI_al, sI_ai1, sI_ai2, sJ_pi, sJ_pl, sJ_ai, sJ_al1, sJ_al2, Nat.reduceEqDiff, if_true, if_false, ne_eq, not_false_eq_true, ite_true, ite_false]; exact f2) (fun k k0 k1 => ?_)
    have b := hh k k0 k1
    simp (disch := lia) only [sF_pi, sF_pl, sF_ai, sF_al, sG_pi, sG_pl, sG_ai, sG_al, sI_pi, sI_pl, sI_al, sI_ai1, sI_ai2, sJ_pi, sJ_pl, sJ_ai, sJ_al1, sJ_al2, Nat.reduceEqDiff, if_true, if_false, ne_eq, not_false_eq_true, ite_true, ite_false, sI_ai i0 k0, sJ_al i0 k0, true_and, false_and]
    by_cases q : k = i
    · subst q
      rw [if_pos rfl, if_pos rfl, if_pos (by lia), if_pos (by lia)]
      exact ⟨rfl, rfl⟩
    · rw [if_neg q, if_neg q, b.1, b.2]
      by_cases z : i < k
      · rw [if_pos z, if_pos z, if_pos (by lia), if_pos (by lia)]; exact ⟨rfl, rfl⟩
      · rw [if_neg z, if_neg z, if_neg (by lia), if_neg (by lia)]; exact ⟨rfl, rfl⟩
/-- true comes before what is given -/
theorem before_2 {N : Nat} (hN : BIG ≤ N) {w : WD} {σ μ : mS} {n : Int32} (H : GV w σ μ n) (n1 : n < 100) : ∃ τ τm, xx6_giveBefore N σ 2 = some (.ok τ) ∧ mm_before N μ 1 1 = some τm ∧ GV w τ τm (n + 1) ∧ m_fr vK σ τ ∧ m_fr vM μ τm := by
  obtain ⟨h1, h2, h3, h4, h5⟩ := H
  obtain ⟨τ, a1, a2, a3, a4, a5, a6⟩ := gb_lp (N := N) (σ := σ) (n := n) (t := 2) (by lia) (by decide) (by decide) (fun k k0 k1 => by have := VV_tag (h5 k k0 k1); exact ⟨this.1, this.2.1⟩) h1 N n h3 (by lia) (big_d hN) σ mf_rfl h1 (fun k k0 k1 => by rw [if_neg (by lia), if_neg (by lia)]; exact ⟨rfl, rfl⟩)
  obtain ⟨τm, b1, b2, b3, b4, b5, b6⟩ := mb_lp (N := N) (σ := μ) (n := n) (t := 1) (v := 1) (by lia) (by decide) (by decide) (fun k k0 k1 => by have := VV_tag (h5 k k0 k1); exact ⟨this.2.2.1, by lia⟩) h2 N n h3 (by lia) (big_d hN) μ mf_rfl h2 (fun k k0 k1 => by rw [if_neg (by lia), if_neg (by lia)]; exact ⟨rfl, rfl⟩)
  refine ⟨τ, τm, ?_, ?_, ⟨a3, b3, by lia, by lia, fun k k0 k1 => ?_⟩, a2, b2⟩
  · simp (disch := lia) only [xx6_giveBefore, lt, gd_in, if_pos, if_neg, ↓reduceIte, gd_z0, gd_z1, gd_tt, sF_fold, sG_fold, sI_fold, sJ_fold, h1]; exact a1
  · simp (disch := lia) only [mm_before, lt, gd_in, if_pos, if_neg, ↓reduceIte, gd_z0, gd_z1, gd_tt, sF_fold, sG_fold, sI_fold, sJ_fold, h2]; exact b1
  · by_cases q : k = 0
    · subst q
      rw [a5, a6, b5, b6]
      exact .inr (.inr (.inl ⟨rfl, rfl, rfl, rfl⟩))
    · rw [(a4 k (by lia) (by lia)).1, (a4 k (by lia) (by lia)).2, (b4 k (by lia) (by lia)).1, (b4 k (by lia) (by lia)).2]
      exact h5 (k - 1) (by lia) (by lia)
/-- the reference puts true before though there are 100 -/
theorem before_m {N : Nat} (hN : BIG ≤ N) {w : WD} {σ μ : mS} {n : Int32} (H : GV w σ μ n) (n1 : n ≤ 100) : ∃ τm, mm_before N μ 1 1 = some τm ∧ m_fr vM μ τm ∧ sF τm 190 = n + 1 := by
  obtain ⟨h1, h2, h3, h4, h5⟩ := H
  obtain ⟨τm, b1, b2, b3, b4, b5, b6⟩ := mb_lp (N := N) (σ := μ) (n := n) (t := 1) (v := 1) (by lia) (by decide) (by decide) (fun k k0 k1 => by have := VV_tag (h5 k k0 k1); exact ⟨this.2.2.1, by lia⟩) h2 N n h3 (by lia) (big_d hN) μ mf_rfl h2 (fun k k0 k1 => by rw [if_neg (by lia), if_neg (by lia)]; exact ⟨rfl, rfl⟩)
  exact ⟨τm, by simp (disch := lia) only [mm_before, lt, gd_in, if_pos, if_neg, ↓reduceIte, gd_z0, gd_z1, gd_tt, sF_fold, sG_fold, sI_fold, sJ_fold, h2]; exact b1, b2, b3⟩
/-- one more is given -/
theorem give1_x {N : Nat} {σ : mS} {n t : Int32} {v : Int64} (h : sF σ 402 = n) (n0 : 0 ≤ n) (n1 : n < 100) (t0 : 0 ≤ t) (t1 : t ≤ 8) : ∃ τ, xx6_giveOne N σ t v = some (.ok τ) ∧ m_fr vK σ τ ∧ sF τ 402 = n + 1 ∧ (∀ k, 0 ≤ k → k < n → sI τ 400 k = sI σ 400 k ∧ sJ τ 401 k = sJ σ 401 k) ∧ sI τ 400 n = t ∧ sJ τ 401 n = v := by
  simp (disch := lia) only [xx6_giveOne, lt, gd_in, if_pos, if_neg, ↓reduceIte, gd_z0, gd_z1, gd_tt, sF_fold, sG_fold, sI_fold, sJ_fold, sF_pi, sF_pl, sF_ai, sF_al, sG_pi, sG_pl, sG_ai, sG_al, sI_pi, sI_pl, sI_al, sI_ai1, sI_ai2, sJ_pi, sJ_pl, sJ_ai, sJ_al1, sJ_al2, Nat.reduceEqDiff, if_true, if_false, ne_eq, not_false_eq_true, ite_true, ite_false, h, nar_tag]
  refine ⟨_, rfl, mf_pi (mf_al (mf_ai mf_rfl rfl) rfl) rfl, ?_, fun k k0 k1 => ?_, ?_, ?_⟩
  · simp only [sF_pi, sF_pl, sF_ai, sF_al, sG_pi, sG_pl, sG_ai, sG_al, sI_pi, sI_pl, sI_al, sI_ai1, sI_ai2, sJ_pi, sJ_pl, sJ_ai, sJ_al1, sJ_al2, Nat.reduceEqDiff, if_true, if_false, ne_eq, not_false_eq_true, ite_true, ite_false]
  · simp (disch := lia) only [sF_pi, sF_pl, sF_ai, sF_al, sG_pi, sG_pl, sG_ai, sG_al, sI_pi, sI_pl, sI_al, sI_ai1, sI_ai2, sJ_pi, sJ_pl, sJ_ai, sJ_al1, sJ_al2, Nat.reduceEqDiff, if_true, if_false, ne_eq, not_false_eq_true, ite_true, ite_false]
    rw [sI_ai n0 k0, sJ_al n0 k0, if_neg (fun q => by lia), if_neg (fun q => by lia)]
    exact ⟨rfl, rfl⟩
  · simp (disch := lia) only [sF_pi, sF_pl, sF_ai, sF_al, sG_pi, sG_pl, sG_ai, sG_al, sI_pi, sI_pl, sI_al, sI_ai1, sI_ai2, sJ_pi, sJ_pl, sJ_ai, sJ_al1, sJ_al2, Nat.reduceEqDiff, if_true, if_false, ne_eq, not_false_eq_true, ite_true, ite_false]
  · simp (disch := lia) only [sF_pi, sF_pl, sF_ai, sF_al, sG_pi, sG_pl, sG_ai, sG_al, sI_pi, sI_pl, sI_al, sI_ai1, sI_ai2, sJ_pi, sJ_pl, sJ_ai, sJ_al1, sJ_al2, Nat.reduceEqDiff, if_true, if_false, ne_eq, not_false_eq_true, ite_true, ite_false]
theorem give1_m {N : Nat} {σ : mS} {n t : Int32} {v : Int64} (h : sF σ 190 = n) (n0 : 0 ≤ n) (n1 : n < 300) (t0 : 0 ≤ t) (t1 : t ≤ 8) : ∃ τ, mm_giveValue N σ t v = some τ ∧ m_fr vM σ τ ∧ sF τ 190 = n + 1 ∧ (∀ k, 0 ≤ k → k < n → sI τ 188 k = sI σ 188 k ∧ sJ τ 189 k = sJ σ 189 k) ∧ sI τ 188 n = t ∧ sJ τ 189 n = v := by
  simp (disch := lia) only [mm_giveValue, lt, gd_in, if_pos, if_neg, ↓reduceIte, gd_z0, gd_z1, gd_tt, sF_fold, sG_fold, sI_fold, sJ_fold, sF_pi, sF_pl, sF_ai, sF_al, sG_pi, sG_pl, sG_ai, sG_al, sI_pi, sI_pl, sI_al, sI_ai1, sI_ai2, sJ_pi, sJ_pl, sJ_ai, sJ_al1, sJ_al2, Nat.reduceEqDiff, if_true, if_false, ne_eq, not_false_eq_true, ite_true, ite_false, h, nar_tag]
  refine ⟨_, rfl, mf_pi (mf_al (mf_ai mf_rfl rfl) rfl) rfl, ?_, fun k k0 k1 => ?_, ?_, ?_⟩
  · simp only [sF_pi, sF_pl, sF_ai, sF_al, sG_pi, sG_pl, sG_ai, sG_al, sI_pi, sI_pl, sI_al, sI_ai1, sI_ai2, sJ_pi, sJ_pl, sJ_ai, sJ_al1, sJ_al2, Nat.reduceEqDiff, if_true, if_false, ne_eq, not_false_eq_true, ite_true, ite_false]
  · simp (disch := lia) only [sF_pi, sF_pl, sF_ai, sF_al, sG_pi, sG_pl, sG_ai, sG_al, sI_pi, sI_pl, sI_al, sI_ai1, sI_ai2, sJ_pi, sJ_pl, sJ_ai, sJ_al1, sJ_al2, Nat.reduceEqDiff, if_true, if_false, ne_eq, not_false_eq_true, ite_true, ite_false]
    rw [sI_ai n0 k0, sJ_al n0 k0, if_neg (fun q => by lia), if_neg (fun q => by lia)]
    exact ⟨rfl, rfl⟩
  · simp (disch := lia) only [sF_pi, sF_pl, sF_ai, sF_al, sG_pi, sG_pl, sG_ai, sG_al, sI_pi, sI_pl, sI_al, sI_ai1, sI_ai2, sJ_pi, sJ_pl, sJ_ai, sJ_al1, sJ_al2, Nat.reduceEqDiff, if_true, if_false, ne_eq, not_false_eq_true, ite_true, ite_false]
  · simp (disch := lia) only [sF_pi, sF_pl, sF_ai, sF_al, sG_pi, sG_pl, sG_ai, sG_al, sI_pi, sI_pl, sI_al, sI_ai1, sI_ai2, sJ_pi, sJ_pl, sJ_ai, sJ_al1, sJ_al2, Nat.reduceEqDiff, if_true, if_false, ne_eq, not_false_eq_true, ite_true, ite_false]
theorem give1_2 {N : Nat} {w : WD} {σ μ : mS} {n tx tm : Int32} {vx vm : Int64} (H : GV w σ μ n) (n1 : n < 100) (v : VV w tx vx tm vm) : ∃ τ τm, xx6_giveOne N σ tx vx = some (.ok τ) ∧ mm_giveValue N μ tm vm = some τm ∧ GV w τ τm (n + 1) ∧ m_fr vK σ τ ∧ m_fr vM μ τm := by
  obtain ⟨h1, h2, h3, h4, h5⟩ := H
  have t := VV_tag v
  obtain ⟨τ, a1, a2, a3, a4, a5, a6⟩ := give1_x (N := N) (v := vx) h1 h3 n1 t.1 t.2.1
  obtain ⟨τm, b1, b2, b3, b4, b5, b6⟩ := give1_m (N := N) (v := vm) h2 h3 (by lia) t.2.2.1 (by lia)
  refine ⟨τ, τm, a1, b1, ⟨a3, b3, by lia, by lia, fun k k0 k1 => ?_⟩, a2, b2⟩
  by_cases q : k = n
  · subst q; rw [a5, a6, b5, b6]; exact v
  · rw [(a4 k k0 (by lia)).1, (a4 k k0 (by lia)).2, (b4 k k0 (by lia)).1, (b4 k k0 (by lia)).2]
    exact h5 k k0 (by lia)
theorem give0_2 {N : Nat} {w : WD} {σ μ : mS} : ∃ τ τm, xx6_clearGives N σ = some τ ∧ mm_giveNothing N μ = some τm ∧ GV w τ τm 0 ∧ m_fr vK σ τ ∧ m_fr vM μ τm := by
  refine ⟨md_pi σ 402 0, md_pi μ 190 0, rfl, rfl, ⟨by simp only [sF_pi, sF_pl, sF_ai, sF_al, sG_pi, sG_pl, sG_ai, sG_al, sI_pi, sI_pl, sI_al, sI_ai1, sI_ai2, sJ_pi, sJ_pl, sJ_ai, sJ_al1, sJ_al2, Nat.reduceEqDiff, if_true, if_false, ne_eq, not_false_eq_true, ite_true, ite_false], by simp only [sF_pi, sF_pl, sF_ai, sF_al, sG_pi, sG_pl, sG_ai, sG_al, sI_pi, sI_pl, sI_al, sI_ai1, sI_ai2, sJ_pi, sJ_pl, sJ_ai, sJ_al1, sJ_al2, Nat.reduceEqDiff, if_true, if_false, ne_eq, not_false_eq_true, ite_true, ite_false], by decide, by decide, fun k k0 k1 => by exfalso; lia⟩, mf_pi mf_rfl rfl, mf_pi mf_rfl rfl⟩
/-- false and an error's value are given -/
theorem giveE_2 {N : Nat} {w : WD} {σ μ : mS} {tx tm : Int32} {vx vm : Int64} (v : VV w tx vx tm vm) : ∃ σ1 σ2 σ3 μ1 μ2 μ3, xx6_clearGives N σ = some σ1 ∧ xx6_giveOne N σ1 1 0 = some (.ok σ2) ∧ xx6_giveOne N σ2 tx vx = some (.ok σ3) ∧ mm_giveNothing N μ = some μ1 ∧ mm_giveValue N μ1 1 0 = some μ2 ∧ mm_giveValue N μ2 tm vm = some μ3 ∧ GV w σ3 μ3 2 ∧ m_fr vK σ σ2 ∧ m_fr vK σ σ3 ∧ m_fr vM μ μ3 := by
  obtain ⟨σ1, μ1, a1, a2, a3, a4, a5⟩ := give0_2 (N := N) (w := w) (σ := σ) (μ := μ)
  obtain ⟨σ2, μ2, b1, b2, b3, b4, b5⟩ := give1_2 (N := N) (tx := 1) (vx := 0) (tm := 1) (vm := 0) a3 (by decide) (.inr (.inl ⟨rfl, rfl, rfl, rfl⟩))
  obtain ⟨σ3, μ3, c1, c2, c3, c4, c5⟩ := give1_2 (N := N) b3 (by decide) v
  exact ⟨σ1, σ2, σ3, μ1, μ2, μ3, a1, b1, c1, a2, b2, c2, c3, mf_tr a4 b4, mf_tr (mf_tr a4 b4) c4, mf_tr (mf_tr a5 b5) c5⟩
