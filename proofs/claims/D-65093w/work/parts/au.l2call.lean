/-! LAYER 2: a handler is put before what is called, on the pile -/
def cM (k : Nat) : Bool := [141, 142, 143].contains k
theorem callable_lp {N : Nat} {σ : mS} {p q n g : Int32} (p0 : 0 ≤ p) (q1 : q ≤ 490000) (pq : p ≤ q) (tg : ∀ k, p ≤ k → k < q → 0 ≤ sI σ 141 k ∧ sI σ 141 k ≤ 8) (hq : sF σ 143 = q) (j : Nat) (i : Int32) (i0 : p ≤ i) (i1 : i ≤ q) (hj : (i.toInt - p.toInt).toNat < j) : ∀ τ : mS, m_fr cM σ τ → sF τ 143 = q → (∀ k, 0 ≤ k → k ≤ q → sI τ 141 k = (if i < k then sI σ 141 (k - 1) else sI σ 141 k) ∧ sJ τ 142 k = (if i < k then sJ σ 142 (k - 1) else sJ σ 142 k)) → ∃ υ, mm_callable_93 N j p n i τ = some (n + 1, υ) ∧ m_fr cM σ υ ∧ sF υ 143 = q + 1 ∧ (∀ k, p < k → k ≤ q → sI υ 141 k = sI σ 141 (k - 1) ∧ sJ υ 142 k = sJ σ 142 (k - 1)) ∧ sI υ 141 p = 5 ∧ sJ υ 142 p = sG σ 43 ∧ (∀ k, 0 ≤ k → k < p → sI υ 141 k = sI σ 141 k ∧ sJ υ 142 k = sJ σ 142 k) := by
  refine loop_dn (lo := p) (m := q) (fun j i => ∀ τ : mS, m_fr cM σ τ → sF τ 143 = q → (∀ k, 0 ≤ k → k ≤ q → sI τ 141 k = (if i < k then sI σ 141 (k - 1) else sI σ 141 k) ∧ sJ τ 142 k = (if i < k then sJ σ 142 (k - 1) else sJ σ 142 k)) → ∃ υ, mm_callable_93 N j p n i τ = some (n + 1, υ) ∧ m_fr cM σ υ ∧ sF υ 143 = q + 1 ∧ (∀ k, p < k → k ≤ q → sI υ 141 k = sI σ 141 (k - 1) ∧ sJ υ 142 k = sJ σ 142 (k - 1)) ∧ sI υ 141 p = 5 ∧ sJ υ 142 p = sG σ 43 ∧ (∀ k, 0 ≤ k → k < p → sI υ 141 k = sI σ 141 k ∧ sJ υ 142 k = sJ σ 142 k)) ?_ j i i0 i1 hj
  clear hj i0 i1 i j
  intro j i i0 i1 ih τ fr f2 hh
  have g43 : sG τ 43 = sG σ 43 := mf_G fr rfl
  have nb5 : vp_nar .byte (5 : Int32) = 5 := nar_tg (by decide) (by decide)
  by_cases c : i ≤ p
  · have ei : i = p := by lia
    subst ei
    simp (disch := lia) only [mm_callable_93, lt, gd_in, if_pos, if_neg, ↓reduceIte, gd_z0, gd_z1, gd_tt, sF_fold, sG_fold, sI_fold, sJ_fold, sF_pi, sF_pl, sF_ai, sF_al, sG_pi, sG_pl, sG_ai, sG_al, sI_pi, sI_pl, sI_al, sI_ai1, sI_ai2, sJ_pi, sJ_pl, sJ_ai, sJ_al1, sJ_al2, Nat.reduceEqDiff, if_true, if_false, ne_eq, not_false_eq_true, ite_true, ite_false, f2, nb5, g43]
    refine ⟨_, rfl, mf_al (mf_ai (mf_pi fr rfl) rfl) rfl, ?_, fun k k0 k1 => ?_, ?_, ?_, fun k k0 k1 => ?_⟩
    · simp only [sF_pi, sF_pl, sF_ai, sF_al, sG_pi, sG_pl, sG_ai, sG_al, sI_pi, sI_pl, sI_al, sI_ai1, sI_ai2, sJ_pi, sJ_pl, sJ_ai, sJ_al1, sJ_al2, Nat.reduceEqDiff, if_true, if_false, ne_eq, not_false_eq_true, ite_true, ite_false]
    · have a := hh k (by lia) k1
      rw [if_pos (by lia), if_pos (by lia)] at a
      simp (disch := lia) only [sI_ai, sJ_al, true_and, sF_pi, sF_pl, sF_ai, sF_al, sG_pi, sG_pl, sG_ai, sG_al, sI_pi, sI_pl, sI_al, sI_ai1, sI_ai2, sJ_pi, sJ_pl, sJ_ai, sJ_al1, sJ_al2, Nat.reduceEqDiff, if_true, if_false, ne_eq, not_false_eq_true, ite_true, ite_false]
      rw [if_neg (by lia), if_neg (by lia)]
      exact a
    · simp (disch := lia) only [sF_pi, sF_pl, sF_ai, sF_al, sG_pi, sG_pl, sG_ai, sG_al, sI_pi, sI_pl, sI_al, sI_ai1, sI_ai2, sJ_pi, sJ_pl, sJ_ai, sJ_al1, sJ_al2, Nat.reduceEqDiff, if_true, if_false, ne_eq, not_false_eq_true, ite_true, ite_false]
    · simp (disch := lia) only [sF_pi, sF_pl, sF_ai, sF_al, sG_pi, sG_pl, sG_ai, sG_al, sI_pi, sI_pl, sI_al, sI_ai1, sI_ai2, sJ_pi, sJ_pl, sJ_ai, sJ_al1, sJ_al2, Nat.reduceEqDiff, if_true, if_false, ne_eq, not_false_eq_true, ite_true, ite_false]
    · have a := hh k k0 (by lia)
      rw [if_neg (by lia), if_neg (by lia)] at a
      simp (disch := lia) only [sI_ai, sJ_al, true_and, sF_pi, sF_pl, sF_ai, sF_al, sG_pi, sG_pl, sG_ai, sG_al, sI_pi, sI_pl, sI_al, sI_ai1, sI_ai2, sJ_pi, sJ_pl, sJ_ai, sJ_al1, sJ_al2, Nat.reduceEqDiff, if_true, if_false, ne_eq, not_false_eq_true, ite_true, ite_false]
      rw [if_neg (by lia), if_neg (by lia)]
      exact a
  · have a := hh (i - 1) (by lia) (by lia)
    rw [if_neg (by lia), if_neg (by lia)] at a
    have gg := tg (i - 1) (by lia) (by lia)
    have e1 : i + -1 = i - 1 := by lia
    have ip : 0 ≤ i := by lia
    simp (disch := lia) only [mm_callable_93, lt, gd_in, if_pos, if_neg, ↓reduceIte, gd_z0, gd_z1, gd_tt, sF_fold, sG_fold, sI_fold, sJ_fold, sF_pi, sF_pl, sF_ai, sF_al, sG_pi, sG_pl, sG_ai, sG_al, sI_pi, sI_pl, sI_al, sI_ai1, sI_ai2, sJ_pi, sJ_pl, sJ_ai, sJ_al1, sJ_al2, Nat.reduceEqDiff, if_true, if_false, ne_eq, not_false_eq_true, ite_true, ite_false, a.1, a.2, nar_tg, e1]
    refine ih (by lia) _ (mf_al (mf_ai fr rfl) rfl) (by simp only [sF_pi, sF_pl, sF_ai, sF_al, sG_pi, sG_pl, sG_ai, sG_al, sI_pi, sI_pl, sI_al, sI_ai1, sI_ai2, sJ_pi, sJ_pl, sJ_ai, sJ_al1, sJ_al2, Nat.reduceEqDiff, if_true, if_false, ne_eq, not_false_eq_true, ite_true, ite_false]; exact f2) (fun k k0 k1 => ?_)
    have b := hh k k0 k1
    simp (disch := lia) only [sF_pi, sF_pl, sF_ai, sF_al, sG_pi, sG_pl, sG_ai, sG_al, sI_pi, sI_pl, sI_al, sI_ai1, sI_ai2, sJ_pi, sJ_pl, sJ_ai, sJ_al1, sJ_al2, Nat.reduceEqDiff, if_true, if_false, ne_eq, not_false_eq_true, ite_true, ite_false, sI_ai ip k0, sJ_al ip k0, true_and, false_and]
    by_cases q' : k = i
    · subst q'
      rw [if_pos rfl, if_pos rfl, if_pos (by lia), if_pos (by lia)]
      exact ⟨rfl, rfl⟩
    · rw [if_neg q', if_neg q', b.1, b.2]
      by_cases z : i < k
      · rw [if_pos z, if_pos z, if_pos (by lia), if_pos (by lia)]; exact ⟨rfl, rfl⟩
      · rw [if_neg z, if_neg z, if_neg (by lia), if_neg (by lia)]; exact ⟨rfl, rfl⟩
