/-! LAYER 2: a coroutine is made: each side alone -/
def tX5 (k : Nat) : Bool := [194, 323, 324, 325, 326, 327, 335, 336, 337, 338].contains k
def tM5 (k : Nat) : Bool := [18, 156, 157, 158, 159, 164, 166, 170, 171].contains k
theorem tX5_f {k : Nat} (h : k < 194 ∨ (194 < k ∧ k < 323) ∨ (327 < k ∧ k < 335) ∨ 338 < k) : tX5 k = false := by
  simp only [tX5, List.contains_cons, List.contains_nil, Bool.or_eq_false_iff, beq_eq_false_iff_ne]
  repeat' apply And.intro
  all_goals first | trivial | omega
theorem tM5_f {k : Nat} (h : k < 18 ∨ (18 < k ∧ k < 156) ∨ (159 < k ∧ k < 164) ∨ k = 165 ∨ (166 < k ∧ k < 170) ∨ 171 < k) : tM5 k = false := by
  simp only [tM5, List.contains_cons, List.contains_nil, Bool.or_eq_false_iff, beq_eq_false_iff_ne]
  repeat' apply And.intro
  all_goals first | trivial | omega
theorem thr_x {N : Nat} {σ : mS} {a : Int32} {v : Int64} (ha : sF σ 337 = a) (a0 : 0 ≤ a) (a1 : a < 121) (c : sF σ 338 ≠ 120) : ∃ τ, xx5_make N σ 6 v = some (.ok (a, τ)) ∧ m_fr tX5 σ τ ∧ sF τ 337 = sI σ 336 a ∧ sF τ 338 = sF σ 338 + 1 ∧ sG τ 194 = sG σ 194 + 1 ∧ (∀ k x, 0 ≤ x → x ≠ a → sI τ k x = sI σ k x) ∧ (∀ k x, 0 ≤ x → x ≠ a → sJ τ k x = sJ σ k x) ∧ sI τ 323 a = 0 ∧ sI τ 324 a = 6 ∧ sJ τ 325 a = v ∧ sI τ 326 a = -1 ∧ sI τ 336 a = -1 ∧ sJ τ 335 a = sG σ 194 := by
  have n6 : vp_nar .byte ((Int32.toInt8 6).toInt32) = 6 := by decide
  have n0 : vp_nar .byte 0 = 0 := by decide
  refine ⟨md_al (md_pl (md_ai (md_ai (md_al (md_ai (md_ai (md_pi (md_ai (md_pi σ 337 (sI σ 336 a)) 336 a.toNatClampNeg (-1)) 338 (sF σ 338 + 1)) 323 a.toNatClampNeg 0) 324 a.toNatClampNeg 6) 325 a.toNatClampNeg v) 326 a.toNatClampNeg (-1)) 327 a.toNatClampNeg (-1)) 194 (sG σ 194 + 1)) 335 a.toNatClampNeg (sG σ 194), ?_, mf_al (mf_pl (mf_ai (mf_ai (mf_al (mf_ai (mf_ai (mf_pi (mf_ai (mf_pi mf_rfl rfl) rfl) rfl) rfl) rfl) rfl) rfl) rfl) rfl) rfl, ?_, ?_, ?_, fun k x x0 ne => ?_, fun k x x0 ne => ?_, ?_, ?_, ?_, ?_, ?_, ?_⟩
  · simp (disch := first | assumption | decide) only [xx5_make, lt, gd_in, if_pos, if_neg, ↓reduceIte, gd_z0, gd_z1, gd_tt, sF_fold, sG_fold, sI_fold, sJ_fold, sF_pi, sF_pl, sF_ai, sF_al, sG_pi, sG_pl, sG_ai, sG_al, sI_pi, sI_pl, sI_al, sI_ai1, sI_ai2, sJ_pi, sJ_pl, sJ_ai, sJ_al1, sJ_al2, Nat.reduceEqDiff, if_true, if_false, ne_eq, not_false_eq_true, ite_true, ite_false, ha, c, n6, n0]
  · simp (disch := decide) only [sF_pi, sF_pl, sF_ai, sF_al, sG_pi, sG_pl, sG_ai, sG_al, sI_pi, sI_pl, sI_al, sI_ai1, sI_ai2, sJ_pi, sJ_pl, sJ_ai, sJ_al1, sJ_al2, Nat.reduceEqDiff, if_true, if_false, ne_eq, not_false_eq_true, ite_true, ite_false]
  · simp (disch := decide) only [sF_pi, sF_pl, sF_ai, sF_al, sG_pi, sG_pl, sG_ai, sG_al, sI_pi, sI_pl, sI_al, sI_ai1, sI_ai2, sJ_pi, sJ_pl, sJ_ai, sJ_al1, sJ_al2, Nat.reduceEqDiff, if_true, if_false, ne_eq, not_false_eq_true, ite_true, ite_false]
  · simp (disch := decide) only [sF_pi, sF_pl, sF_ai, sF_al, sG_pi, sG_pl, sG_ai, sG_al, sI_pi, sI_pl, sI_al, sI_ai1, sI_ai2, sJ_pi, sJ_pl, sJ_ai, sJ_al1, sJ_al2, Nat.reduceEqDiff, if_true, if_false, ne_eq, not_false_eq_true, ite_true, ite_false]
  · have na : ¬ (x = a) := ne
    simp only [sI_al, sI_pl, sI_pi, sI_ai a0 x0, na, and_false, if_false]
  · have na : ¬ (x = a) := ne
    simp only [sJ_ai, sJ_pl, sJ_pi, sJ_al a0 x0, na, and_false, if_false]
  · simp (disch := decide) only [sF_pi, sF_pl, sF_ai, sF_al, sG_pi, sG_pl, sG_ai, sG_al, sI_pi, sI_pl, sI_al, sI_ai1, sI_ai2, sJ_pi, sJ_pl, sJ_ai, sJ_al1, sJ_al2, Nat.reduceEqDiff, if_true, if_false, ne_eq, not_false_eq_true, ite_true, ite_false]
  · simp (disch := decide) only [sF_pi, sF_pl, sF_ai, sF_al, sG_pi, sG_pl, sG_ai, sG_al, sI_pi, sI_pl, sI_al, sI_ai1, sI_ai2, sJ_pi, sJ_pl, sJ_ai, sJ_al1, sJ_al2, Nat.reduceEqDiff, if_true, if_false, ne_eq, not_false_eq_true, ite_true, ite_false]
  · simp (disch := decide) only [sF_pi, sF_pl, sF_ai, sF_al, sG_pi, sG_pl, sG_ai, sG_al, sI_pi, sI_pl, sI_al, sI_ai1, sI_ai2, sJ_pi, sJ_pl, sJ_ai, sJ_al1, sJ_al2, Nat.reduceEqDiff, if_true, if_false, ne_eq, not_false_eq_true, ite_true, ite_false]
  · simp (disch := decide) only [sF_pi, sF_pl, sF_ai, sF_al, sG_pi, sG_pl, sG_ai, sG_al, sI_pi, sI_pl, sI_al, sI_ai1, sI_ai2, sJ_pi, sJ_pl, sJ_ai, sJ_al1, sJ_al2, Nat.reduceEqDiff, if_true, if_false, ne_eq, not_false_eq_true, ite_true, ite_false]
  · simp (disch := decide) only [sF_pi, sF_pl, sF_ai, sF_al, sG_pi, sG_pl, sG_ai, sG_al, sI_pi, sI_pl, sI_al, sI_ai1, sI_ai2, sJ_pi, sJ_pl, sJ_ai, sJ_al1, sJ_al2, Nat.reduceEqDiff, if_true, if_false, ne_eq, not_false_eq_true, ite_true, ite_false]
  · simp (disch := decide) only [sF_pi, sF_pl, sF_ai, sF_al, sG_pi, sG_pl, sG_ai, sG_al, sI_pi, sI_pl, sI_al, sI_ai1, sI_ai2, sJ_pi, sJ_pl, sJ_ai, sJ_al1, sJ_al2, Nat.reduceEqDiff, if_true, if_false, ne_eq, not_false_eq_true, ite_true, ite_false]
theorem thr_x0 {N : Nat} {σ : mS} {v : Int64} (c : sF σ 338 = 120) : xx5_make N σ 6 v = some (.error (1101, σ)) := by
  rw [xx5_make, sF_fold, if_pos c]
theorem thr_m23 {N : Nat} {μ : mS} {f b : Int32} (b0 : 0 ≤ b) (b1 : b < 120) : ∃ τ, mm_makeThread_23 N f b μ = some (b, τ) ∧ m_fr tM5 μ τ ∧ sF τ 18 = sF μ 18 + 1 ∧ sF τ 171 = sF μ 171 + 1 ∧ (∀ k x, 0 ≤ x → x ≠ b → sI τ k x = sI μ k x) ∧ sI τ 170 b = 1 ∧ sI τ 157 b = sF μ 18 + 1 ∧ sI τ 158 b = f ∧ sI τ 156 b = 0 ∧ sI τ 159 b = 0 ∧ sI τ 164 b = 0 ∧ sI τ 166 b = 0 := by
  have c : ¬ b = 120 := by lia
  have b2 : b < 121 := by lia
  have n1 : vp_nar .boolean 1 = 1 := by decide
  have n2 : vp_nar .boolean 0 = 0 := by decide
  have n0 : vp_nar .byte 0 = 0 := by decide
  refine ⟨md_pi (md_ai (md_ai (md_ai (md_ai (md_ai (md_ai (md_pi (md_ai μ 170 b.toNatClampNeg 1) 18 (sF μ 18 + 1)) 157 b.toNatClampNeg (sF μ 18 + 1)) 158 b.toNatClampNeg f) 156 b.toNatClampNeg 0) 159 b.toNatClampNeg 0) 164 b.toNatClampNeg 0) 166 b.toNatClampNeg 0) 171 (sF μ 171 + 1), ?_, mf_pi (mf_ai (mf_ai (mf_ai (mf_ai (mf_ai (mf_ai (mf_pi (mf_ai mf_rfl rfl) rfl) rfl) rfl) rfl) rfl) rfl) rfl) rfl, ?_, ?_, fun k x x0 ne => ?_, ?_, ?_, ?_, ?_, ?_, ?_, ?_⟩
  · simp (disch := first | assumption | decide) only [mm_makeThread_23, lt, gd_in, if_pos, if_neg, ↓reduceIte, gd_z0, gd_z1, gd_tt, sF_fold, sG_fold, sI_fold, sJ_fold, sF_pi, sF_pl, sF_ai, sF_al, sG_pi, sG_pl, sG_ai, sG_al, sI_pi, sI_pl, sI_al, sI_ai1, sI_ai2, sJ_pi, sJ_pl, sJ_ai, sJ_al1, sJ_al2, Nat.reduceEqDiff, if_true, if_false, ne_eq, not_false_eq_true, ite_true, ite_false, c, n1, n2, n0]
  · simp (disch := decide) only [sF_pi, sF_pl, sF_ai, sF_al, sG_pi, sG_pl, sG_ai, sG_al, sI_pi, sI_pl, sI_al, sI_ai1, sI_ai2, sJ_pi, sJ_pl, sJ_ai, sJ_al1, sJ_al2, Nat.reduceEqDiff, if_true, if_false, ne_eq, not_false_eq_true, ite_true, ite_false]
  · simp (disch := decide) only [sF_pi, sF_pl, sF_ai, sF_al, sG_pi, sG_pl, sG_ai, sG_al, sI_pi, sI_pl, sI_al, sI_ai1, sI_ai2, sJ_pi, sJ_pl, sJ_ai, sJ_al1, sJ_al2, Nat.reduceEqDiff, if_true, if_false, ne_eq, not_false_eq_true, ite_true, ite_false]
  · have na : ¬ (x = b) := ne
    simp only [sI_pi, sI_ai b0 x0, na, and_false, if_false]
  · simp (disch := decide) only [sF_pi, sF_pl, sF_ai, sF_al, sG_pi, sG_pl, sG_ai, sG_al, sI_pi, sI_pl, sI_al, sI_ai1, sI_ai2, sJ_pi, sJ_pl, sJ_ai, sJ_al1, sJ_al2, Nat.reduceEqDiff, if_true, if_false, ne_eq, not_false_eq_true, ite_true, ite_false]
  · simp (disch := decide) only [sF_pi, sF_pl, sF_ai, sF_al, sG_pi, sG_pl, sG_ai, sG_al, sI_pi, sI_pl, sI_al, sI_ai1, sI_ai2, sJ_pi, sJ_pl, sJ_ai, sJ_al1, sJ_al2, Nat.reduceEqDiff, if_true, if_false, ne_eq, not_false_eq_true, ite_true, ite_false]
  · simp (disch := decide) only [sF_pi, sF_pl, sF_ai, sF_al, sG_pi, sG_pl, sG_ai, sG_al, sI_pi, sI_pl, sI_al, sI_ai1, sI_ai2, sJ_pi, sJ_pl, sJ_ai, sJ_al1, sJ_al2, Nat.reduceEqDiff, if_true, if_false, ne_eq, not_false_eq_true, ite_true, ite_false]
  · simp (disch := decide) only [sF_pi, sF_pl, sF_ai, sF_al, sG_pi, sG_pl, sG_ai, sG_al, sI_pi, sI_pl, sI_al, sI_ai1, sI_ai2, sJ_pi, sJ_pl, sJ_ai, sJ_al1, sJ_al2, Nat.reduceEqDiff, if_true, if_false, ne_eq, not_false_eq_true, ite_true, ite_false]
  · simp (disch := decide) only [sF_pi, sF_pl, sF_ai, sF_al, sG_pi, sG_pl, sG_ai, sG_al, sI_pi, sI_pl, sI_al, sI_ai1, sI_ai2, sJ_pi, sJ_pl, sJ_ai, sJ_al1, sJ_al2, Nat.reduceEqDiff, if_true, if_false, ne_eq, not_false_eq_true, ite_true, ite_false]
  · simp (disch := decide) only [sF_pi, sF_pl, sF_ai, sF_al, sG_pi, sG_pl, sG_ai, sG_al, sI_pi, sI_pl, sI_al, sI_ai1, sI_ai2, sJ_pi, sJ_pl, sJ_ai, sJ_al1, sJ_al2, Nat.reduceEqDiff, if_true, if_false, ne_eq, not_false_eq_true, ite_true, ite_false]
  · simp (disch := decide) only [sF_pi, sF_pl, sF_ai, sF_al, sG_pi, sG_pl, sG_ai, sG_al, sI_pi, sI_pl, sI_al, sI_ai1, sI_ai2, sJ_pi, sJ_pl, sJ_ai, sJ_al1, sJ_al2, Nat.reduceEqDiff, if_true, if_false, ne_eq, not_false_eq_true, ite_true, ite_false]
/-- the least free place -/
theorem thr_lp {N : Nat} {μ : mS} {f b : Int32} (b1 : b ≤ 120) (hb : b = 120 ∨ sI μ 170 b = 0) (hl : ∀ d, 0 ≤ d → d < b → sI μ 170 d ≠ 0) : ∀ (m : Nat) (i : Int32), 0 ≤ i → i ≤ b → (b.toInt - i.toInt).toNat < m → mm_makeThread_2 N m f i μ = mm_makeThread_23 N f b μ := by
  intro m
  induction m with
  | zero => intro i _ _ h; omega
  | succ m ih =>
    intro i i0 i1 hm
    rw [mm_makeThread_2]
    by_cases c : i = b
    · subst c
      by_cases z : 120 ≤ i
      · rw [if_pos z]
      · rw [if_neg z, gd_in (by decide) i0 (by lia), sI_fold]
        rcases hb with q | q
        · exfalso; lia
        · rw [if_pos q]
    · have ib : i < b := by lia
      have ee := tI_s ib
      rw [if_neg (by lia), gd_in (by decide) i0 (by lia), sI_fold, if_neg (hl i i0 ib), lt]
      rw [tI_lt] at ib
      exact ih (i + 1) (by lia) (by rw [tI_le]; omega) (by rw [ee]; omega)
theorem thr_least {μ : mS} : ∀ (n : Nat), n ≤ 120 → (∃ b : Int32, 0 ≤ b ∧ b < Int32.ofNat n ∧ sI μ 170 b = 0 ∧ ∀ d, 0 ≤ d → d < b → sI μ 170 d ≠ 0) ∨ (∀ d, 0 ≤ d → d < Int32.ofNat n → sI μ 170 d ≠ 0)
  | 0, _ => .inr (fun d d0 d1 => by
      have : (Int32.ofNat 0 : Int32) = 0 := rfl
      rw [this] at d1
      exfalso; lia)
  | n + 1, h => by
    have e : (Int32.ofNat (n + 1)).toInt = n + 1 := by rw [tI_lit (by omega)]; rfl
    have e' : (Int32.ofNat n).toInt = n := tI_lit (by omega)
    rcases thr_least n (by omega) with ⟨b, b0, b1, b2, b3⟩ | hn
    · exact .inl ⟨b, b0, by rw [tI_lt] at b1 ⊢; omega, b2, b3⟩
    · by_cases c : sI μ 170 (Int32.ofNat n) = 0
      · exact .inl ⟨Int32.ofNat n, oN_nn (by omega), by rw [tI_lt]; omega, c, hn⟩
      · refine .inr (fun d d0 d1 => ?_)
        by_cases q : d < Int32.ofNat n
        · exact hn d d0 q
        · have : d = Int32.ofNat n := by
            rw [tI_eq]; rw [tI_lt] at d1 q; omega
          rw [this]; exact c
