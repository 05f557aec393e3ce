/-! LAYER 2: a handler gets what is called before the other arguments -/
def aK (k : Nat) : Bool := [397, 398, 399, 408, 409].contains k
theorem look_lp {N : Nat} {σ : mS} {n t h : Int32} {v : Int64} (n1 : n ≤ 100) (t0 : 0 ≤ t) (t1 : t ≤ 8) (h0 : 0 ≤ h) (h1 : h < 20000) (tg : ∀ k, 0 ≤ k → k < n → 0 ≤ sI σ 397 k ∧ sI σ 397 k ≤ 8) (hn : sF σ 399 = n) (j : Nat) (i : Int32) (i0 : 0 ≤ i) (i1 : i ≤ n) (hj : (i.toInt - (0 : Int32).toInt).toNat < j) : ∀ τ : mS, m_fr aK σ τ → sF τ 399 = n → (∀ k, 0 ≤ k → k ≤ n → sI τ 397 k = (if i < k then sI σ 397 (k - 1) else sI σ 397 k) ∧ sJ τ 398 k = (if i < k then sJ σ 398 (k - 1) else sJ σ 398 k)) → ∃ υ, xx6_look_b94 N j t v h i τ = some (.ok υ) ∧ m_fr aK σ υ ∧ sF υ 399 = n + 1 ∧ (∀ k, 1 ≤ k → k ≤ n → sI υ 397 k = sI σ 397 (k - 1) ∧ sJ υ 398 k = sJ σ 398 (k - 1)) ∧ sI υ 397 0 = t ∧ sJ υ 398 0 = v ∧ sG υ 409 = sJ σ 215 h := by
  refine loop_dn (lo := 0) (m := n) (fun j i => ∀ τ : mS, m_fr aK σ τ → sF τ 399 = n → (∀ k, 0 ≤ k → k ≤ n → sI τ 397 k = (if i < k then sI σ 397 (k - 1) else sI σ 397 k) ∧ sJ τ 398 k = (if i < k then sJ σ 398 (k - 1) else sJ σ 398 k)) → ∃ υ, xx6_look_b94 N j t v h i τ = some (.ok υ) ∧ m_fr aK σ υ ∧ sF υ 399 = n + 1 ∧ (∀ k, 1 ≤ k → k ≤ n → sI υ 397 k = sI σ 397 (k - 1) ∧ sJ υ 398 k = sJ σ 398 (k - 1)) ∧ sI υ 397 0 = t ∧ sJ υ 398 0 = v ∧ sG υ 409 = sJ σ 215 h) ?_ j i i0 i1 hj
  clear hj i0 i1 i j
  intro j i i0 i1 ih τ fr f2 hh
  by_cases c : i ≤ 0
  · have ei : i = 0 := by lia
    subst ei
    have j215 : sJ τ 215 h = sJ σ 215 h := mf_J fr rfl
    simp (disch := lia) only [xx6_look_b94, xx6_look_b182, lt, gd_in, if_pos, if_neg, ↓reduceIte, gd_z0, gd_z1, gd_tt, sF_fold, sG_fold, sI_fold, sJ_fold, sF_pi, sF_pl, sF_ai, sF_al, sG_pi, sG_pl, sG_ai, sG_al, sI_pi, sI_pl, sI_al, sI_ai1, sI_ai2, sJ_pi, sJ_pl, sJ_ai, sJ_al1, sJ_al2, Nat.reduceEqDiff, if_true, if_false, ne_eq, not_false_eq_true, ite_true, ite_false, f2, nar_tag, j215]
    refine ⟨_, rfl, mf_pl (mf_pi (mf_pi (mf_al (mf_ai fr rfl) rfl) rfl) rfl) rfl, ?_, fun k k0 k1 => ?_, ?_, ?_, ?_⟩
    · simp only [sF_pi, sF_pl, sF_ai, sF_al, sG_pi, sG_pl, sG_ai, sG_al, sI_pi, sI_pl, sI_al, sI_ai1, sI_ai2, sJ_pi, sJ_pl, sJ_ai, sJ_al1, sJ_al2, Nat.reduceEqDiff, if_true, if_false, ne_eq, not_false_eq_true, ite_true, ite_false]
    · have a := hh k (by lia) k1
      rw [if_pos (by lia), if_pos (by lia)] at a
      simp (disch := lia) only [sI_ai, sJ_al, true_and, sF_pi, sF_pl, sF_ai, sF_al, sG_pi, sG_pl, sG_ai, sG_al, sI_pi, sI_pl, sI_al, sI_ai1, sI_ai2, sJ_pi, sJ_pl, sJ_ai, sJ_al1, sJ_al2, Nat.reduceEqDiff, if_true, if_false, ne_eq, not_false_eq_true, ite_true, ite_false]
      rw [if_neg (by lia), if_neg (by lia)]
      exact a
    · simp (disch := lia) only [sF_pi, sF_pl, sF_ai, sF_al, sG_pi, sG_pl, sG_ai, sG_al, sI_pi, sI_pl, sI_al, sI_ai1, sI_ai2, sJ_pi, sJ_pl, sJ_ai, sJ_al1, sJ_al2, Nat.reduceEqDiff, if_true, if_false, ne_eq, not_false_eq_true, ite_true, ite_false]
    · simp (disch := lia) only [sF_pi, sF_pl, sF_ai, sF_al, sG_pi, sG_pl, sG_ai, sG_al, sI_pi, sI_pl, sI_al, sI_ai1, sI_ai2, sJ_pi, sJ_pl, sJ_ai, sJ_al1, sJ_al2, Nat.reduceEqDiff, if_true, if_false, ne_eq, not_false_eq_true, ite_true, ite_false]
    · simp (disch := lia) only [sF_pi, sF_pl, sF_ai, sF_al, sG_pi, sG_pl, sG_ai, sG_al, sI_pi, sI_pl, sI_al, sI_ai1, sI_ai2, sJ_pi, sJ_pl, sJ_ai, sJ_al1, sJ_al2, Nat.reduceEqDiff, if_true, if_false, ne_eq, not_false_eq_true, ite_true, ite_false]
  · have a := hh (i - 1) (by lia) (by lia)
    rw [if_neg (by lia), if_neg (by lia)] at a
    have g := tg (i - 1) (by lia) (by lia)
    have e1 : i + -1 = i - 1 := by lia
    simp (disch := lia) only [xx6_look_b94, lt, gd_in, if_pos, if_neg, ↓reduceIte, gd_z0, gd_z1, gd_tt, sF_fold, sG_fold, sI_fold, sJ_fold, sF_pi, sF_pl, sF_ai, sF_al, sG_pi, sG_pl, sG_ai, sG_al, sI_pi, sI_pl, sI_al, sI_ai1, sI_ai2, sJ_pi, sJ_pl, sJ_ai, sJ_al1, sJ_al2, Nat.reduceEqDiff, if_true, if_false, ne_eq, not_false_eq_true, ite_true, ite_false, a.1, a.2, nar_tg, e1]
    refine ih (by lia) _ (mf_al (mf_ai fr rfl) rfl) (by simp only [sF_pi, sF_pl, sF_ai, sF_al, sG_pi, sG_pl, sG_ai, sG_al, sI_pi, sI_pl, sI_al, sI_ai1, sI_ai2, sJ_pi, sJ_pl, sJ_ai, sJ_al1, sJ_al2, Nat.reduceEqDiff, if_true, if_false, ne_eq, not_false_eq_true, ite_true, ite_false]; exact f2) (fun k k0 k1 => ?_)
    have b := hh k k0 k1
    simp (disch := lia) only [sF_pi, sF_pl, sF_ai, sF_al, sG_pi, sG_pl, sG_ai, sG_al, sI_pi, sI_pl, sI_al, sI_ai1, sI_ai2, sJ_pi, sJ_pl, sJ_ai, sJ_al1, sJ_al2, Nat.reduceEqDiff, if_true, if_false, ne_eq, not_false_eq_true, ite_true, ite_false, sI_ai i0 k0, sJ_al i0 k0, true_and, false_and]
    by_cases q : k = i
    · subst q
      rw [if_pos rfl, if_pos rfl, if_pos (by lia), if_pos (by lia)]
      exact ⟨rfl, rfl⟩
    · rw [if_neg q, if_neg q, b.1, b.2]
      by_cases z : i < k
      · rw [if_pos z, if_pos z, if_pos (by lia), if_pos (by lia)]; exact ⟨rfl, rfl⟩
      · rw [if_neg z, if_neg z, if_neg (by lia), if_neg (by lia)]; exact ⟨rfl, rfl⟩
