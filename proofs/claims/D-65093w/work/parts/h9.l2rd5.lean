/-! LAYER 2: the two readers: a sign is reduced; signs of one side -/
theorem bd_gd {α β : Type} {b : Bool} {y : α} {f : α → Option β} : bd (gd b (some y)) f = gd b (f y) := by cases b <;> rfl
theorem bd_as {α β γ : Type} {x : Option α} {f : α → Option β} {g : β → Option γ} : bd (bd x f) g = bd x (fun z => bd (f z) g) := by cases x <;> rfl
theorem rd_0 {x y : Int32} (h : y = x + 1) : y - 1 = x := by rw [h, Int32.add_sub_cancel]
theorem lt_e {α β : Type} {x : α} {f : α → Option β} : lt x f = f x := nrf rfl
theorem rd80 {N : Nat} {ν : mS} {x l y : Int32} (hx : sF ν 133 = x) (g : inB x 2048 = true) (hl : sI ν 131 x = l) : mm_reduce_80 N y ν = bd (em N y 0 0 0 l ν) (fun z => k0 z) := by
  rw [mm_reduce_80]
  simp only [sF_fold, sI_fold]
  rw [hx, gd_of g, hl, em, bd_as]
  simp only [mm_reduce_177, lt, k0, bd]
theorem rd149 {N : Nat} {ν : mS} {x l s y z : Int32} (hx : sF ν 133 = x) (g : inB x 2048 = true) (hl : sI ν 131 x = l) : mm_reduce_149 N s y z ν = bd (emh N 23 s 0 l (-1) (md_pi ν 69 (y - z))) (fun z => k0 z) := by
  have p : sF (md_pi ν 69 (y - z)) 133 = x := hx
  have q : sI (md_pi ν 69 (y - z)) 131 x = l := hl
  rw [mm_reduce_149]
  simp only [lt, sF_fold]
  rw [p, gd_of g]
  simp only [sI_fold]
  rw [q, emh, bd_as]
  simp only [mm_reduce_177, lt, k0]
theorem rd111 {N : Nat} {ν : mS} {x j : Int32} (hx : sF ν 133 = x) (g : inB x 2048 = true) (hj : sI ν 132 x = j) : mm_reduce_111 N ν = bd (fst j ν) (fun z => k0 z) := by
  rw [mm_reduce_111]
  simp only [sF_fold, sI_fold]
  rw [hx, gd_of g, hj, fst, bd_gd]
  simp only [mm_reduce_177, lt, k0]
theorem red_two {N : Nat} {μ μ1 : mS} {x s l : Int32} (hv : mm_value N μ = some μ1) (f : m_fr fOp μ μ1) (hx : sF μ 133 = x + 1) (g : inB x 2048 = true) (hs : sI μ 130 x = s) (hl : sI μ 131 x = l) (s0 : 0 ≤ s) (s1 : ¬ s = 10) (s2 : ¬ s = 25) : mm_reduce N μ = bd (emh N 23 s 0 l (-1) (md_pi (md_pi μ1 133 x) 69 (sF μ1 69 - (if s = 308 then 1 else 0)))) (fun z => k0 z) := by
  have e : μ1.1 133 - 1 = x := rd_0 (by rw [show μ1.1 133 = sF μ 133 from mf_F f rfl]; exact hx)
  have r1 : (md_pi μ1 133 x).1 133 = x := rfl
  have r2 : (md_pi μ1 133 x).2.2.1 130 x.toNatClampNeg = s := (mf_I f (k := 130) (m := x) rfl).trans hs
  have p : sF (md_pi μ1 133 x) 133 = x := rfl
  have q : sI (md_pi μ1 133 x) 131 x = l := (mf_I f (k := 131) (m := x) rfl).trans hl
  have r3 : (md_pi μ1 133 x).1 69 = sF μ1 69 := rfl
  rw [mm_reduce, hv, bd_so, lt_e, e, r1, gd_of g, lt_e, r2, if_pos s0, if_neg s1, if_neg s2, r3]
  by_cases c : s = 308
  · rw [if_pos c, if_pos c, rd149 p g q]
  · rw [if_neg c, if_neg c, rd149 p g q]
theorem red_log {N : Nat} {μ μ1 : mS} {x s j : Int32} (hv : mm_value N μ = some μ1) (f : m_fr fOp μ μ1) (hx : sF μ 133 = x + 1) (g : inB x 2048 = true) (hs : sI μ 130 x = s) (hj : sI μ 132 x = j) (h : s = 10 ∨ s = 25) : mm_reduce N μ = bd (fst j (md_pi μ1 133 x)) (fun z => k0 z) := by
  have e : μ1.1 133 - 1 = x := rd_0 (by rw [show μ1.1 133 = sF μ 133 from mf_F f rfl]; exact hx)
  have r1 : (md_pi μ1 133 x).1 133 = x := rfl
  have r2 : (md_pi μ1 133 x).2.2.1 130 x.toNatClampNeg = s := (mf_I f (k := 130) (m := x) rfl).trans hs
  have p : sF (md_pi μ1 133 x) 133 = x := rfl
  have q : sI (md_pi μ1 133 x) 132 x = j := (mf_I f (k := 132) (m := x) rfl).trans hj
  rcases h with h | h
  · have s0 : 0 ≤ s := by rw [h]; decide
    rw [mm_reduce, hv, bd_so, lt_e, e, r1, gd_of g, lt_e, r2, if_pos s0, if_pos h, rd111 p g q]
  · have s0 : 0 ≤ s := by rw [h]; decide
    have s1 : ¬ s = 10 := by rw [h]; decide
    rw [mm_reduce, hv, bd_so, lt_e, e, r1, gd_of g, lt_e, r2, if_pos s0, if_neg s1, if_pos h, rd111 p g q]
def own (s : Int32) : Int32 := if -1 - s = 24 then 27 else if -1 - s = 135 then 26 else if -1 - s = 145 then 24 else 25
theorem red_neg {N : Nat} {μ μ1 : mS} {x s l : Int32} (hv : mm_value N μ = some μ1) (f : m_fr fOp μ μ1) (hx : sF μ 133 = x + 1) (g : inB x 2048 = true) (hs : sI μ 130 x = s) (hl : sI μ 131 x = l) (s0 : ¬ 0 ≤ s) : mm_reduce N μ = bd (em N (own s) 0 0 0 l (md_pi (md_pi μ1 133 x) 69 (sF μ1 69 - 1))) (fun z => k0 z) := by
  have e : μ1.1 133 - 1 = x := rd_0 (by rw [show μ1.1 133 = sF μ 133 from mf_F f rfl]; exact hx)
  have r1 : (md_pi μ1 133 x).1 133 = x := rfl
  have r2 : (md_pi μ1 133 x).2.2.1 130 x.toNatClampNeg = s := (mf_I f (k := 130) (m := x) rfl).trans hs
  have p : sF (md_pi μ1 133 x) 133 = x := rfl
  have q : sI (md_pi (md_pi μ1 133 x) 69 (sF μ1 69 - 1)) 131 x = l := (mf_I f (k := 131) (m := x) rfl).trans hl
  have p3 : sF (md_pi (md_pi μ1 133 x) 69 (sF μ1 69 - 1)) 133 = x := rfl
  have r3 : (md_pi μ1 133 x).1 69 = sF μ1 69 := rfl
  rw [mm_reduce, hv, bd_so, lt_e, e, r1, gd_of g, lt_e, r2, if_neg s0, lt_e, lt_e, r3, own]
  by_cases c1 : -1 - s = 24
  · rw [if_pos c1, if_pos c1, rd80 p3 g q]
  rw [if_neg c1, if_neg c1]
  by_cases c2 : -1 - s = 135
  · rw [if_pos c2, if_pos c2, rd80 p3 g q]
  rw [if_neg c2, if_neg c2]
  by_cases c3 : -1 - s = 145
  · rw [if_pos c3, if_pos c3, rd80 p3 g q]
  rw [if_neg c3, if_neg c3, rd80 p3 g q]
/-- the loop that reduces, when the reference has failed -/
theorem e84_f {N : Nat} {T : ty_expression} {f g : Nat} {v b : Int32} {μ : mS} (h : sF μ 67 = 1) (hb : b ≤ 0) : mm_expression_84 N T (mm_expression_7 N T (f + 1)) (g + 1) v b μ = some μ := by
  rw [mm_expression_84]
  simp only [sF_fold]
  rw [h, if_neg (by decide), mm_expression_124, if_pos hb, mm_expression_133, if_pos rfl, mm_expression_149, mm_expression_7, if_pos rfl]
  rfl
theorem e7_f {N : Nat} {T : ty_expression} {f : Nat} {v b : Int32} {μ : mS} (h : sF μ 67 = 1) : mm_expression_7 N T (f + 1) v b μ = some μ := by
  rw [mm_expression_7]
  simp only [sF_fold]
  rw [h]
  by_cases c : b = 0
  · rw [if_pos c]; rfl
  · rw [if_neg c, if_neg (by decide)]; rfl
theorem e65_f {N : Nat} (hN : BIG ≤ N) {T : ty_expression} {f : Nat} {v : Int32} {μ : mS} (h : sF μ 67 = 1) : mm_expression_65 N T (mm_expression_7 N T (f + 1)) v μ = some μ := by
  obtain ⟨M, hM⟩ : ∃ M, N = M + 1 := ⟨N - 1, by have : 1 ≤ N := Nat.le_trans (by decide) hN; omega⟩
  rw [mm_expression_65]
  simp only [sF_fold]
  rw [h, if_neg (by decide), mm_expression_83]
  have k : ∀ K, mm_expression_84 N T (mm_expression_7 N T (f + 1)) K v 0 μ = mm_expression_84 N T (mm_expression_7 N T (f + 1)) K v 0 μ := fun _ => rfl
  have z : ∀ K, K = M + 1 → mm_expression_84 N T (mm_expression_7 N T (f + 1)) K v 0 μ = some μ := fun K hK => by rw [hK]; exact e84_f h (Int32.le_refl _)
  exact z N hM
theorem e18_f {N : Nat} (hN : BIG ≤ N) {T : ty_expression} {f g : Nat} {v : Int32} {μ : mS} (h : sF μ 67 = 1) : mm_expression_18 N T (mm_expression_7 N T (f + 1)) (g + 1) v μ = some μ := by
  rw [mm_expression_18]
  simp only [sF_fold]
  rw [h, if_neg (by decide), mm_expression_54]
  simp only [sF_fold]
  rw [h, if_neg (by decide)]
  exact e65_f hN h
/-- the system goes on after a failure: expressions -/
theorem fx_e2 {N d : Nat} (hN : BIG ≤ N) {σ : mS} {l : Int32} (h : sF σ 646 = 1) (g : inB (sF σ 584) 13000 = true) (l0 : 0 ≤ l) : (rc_xx10_arguments N (d + 2)).2.2.2.2.2.1 σ l = some (sF σ 584, ndS σ 0) := by
  have u : (rc_xx10_arguments N (d + 1)).2.2.2.2.2.2.2.2.2.2.2.2.2.2.2.2.1 σ = some (sF σ 584, ndS σ 0) := by
    show bxx10_unary N (rc_xx10_arguments N d) σ = _
    rw [bxx10_unary]
    simp only [sF_fold]
    rw [h, if_neg (by decide), node_e g]
    rfl
  show bxx10_expression_2 N (rc_xx10_arguments N (d + 1)) σ l = _
  rw [bxx10_expression_2, u]
  simp only [bd]
  rw [show (ndS σ 0).1 646 = sF σ 646 from rfl, h, if_neg (by decide), xx10_expression_2_b26]
  obtain ⟨M, hM⟩ : ∃ M, N = M + 1 := ⟨N - 1, by have : 1 ≤ N := Nat.le_trans (by decide) hN; omega⟩
  have z : ∀ K, K = M + 1 → xx10_expression_2_b27 N (rc_xx10_arguments N (d + 1)) K l (sF σ 584) 0 (ndS σ 0) = some (sF σ 584, ndS σ 0) := fun K hK => by rw [hK, xx10_expression_2_b27, if_pos l0]
  exact z N hM
theorem fx_e {N d : Nat} (hN : BIG ≤ N) {σ : mS} (h : sF σ 646 = 1) (g : inB (sF σ 584) 13000 = true) : (rc_xx10_arguments N (d + 3)).2.2.2.2.1 σ = some (sF σ 584, ndS σ 0) := by
  show bxx10_expression N (rc_xx10_arguments N (d + 2)) σ = _
  rw [bxx10_expression, fx_e2 hN h g (Int32.le_refl _)]
  rfl
theorem fx_es {N d : Nat} (hN : BIG ≤ N) {σ : mS} (h : sF σ 646 = 1) (g : inB (sF σ 584) 13000 = true) : (rc_xx10_arguments N (d + 4)).2.2.2.2.2.2.1 σ = some (sF σ 584, ndS σ 0) := by
  show bxx10_expressions N (rc_xx10_arguments N (d + 3)) σ = _
  rw [bxx10_expressions, fx_e hN h g]
  simp only [bd]
  obtain ⟨M, hM⟩ : ∃ M, N = M + 1 := ⟨N - 1, by have : 1 ≤ N := Nat.le_trans (by decide) hN; omega⟩
  have z : ∀ K, K = M + 1 → xx10_expressions_b9 N (rc_xx10_arguments N (d + 3)) K (sF σ 584) (sF σ 584) 1 (ndS σ 0) = some (sF σ 584, ndS σ 0) := fun K hK => by
    rw [hK, xx10_expressions_b9, is_f (show sF (ndS σ 0) 646 = 1 from h)]
    simp only [bd]
    rw [if_pos trivial]
  exact z N hM
theorem FLw_nd {n : Int32} {t : Int32 → Int32} {w : WD} {k : Int} {σ μ : mS} (h : FLw n t w k σ μ) (hk : k ≤ 3900) (j : Int32) : FLw n t w (k + 1) (ndS σ j) μ := by
  have h' := h
  obtain ⟨_, _, _, ⟨_, _, _, b4, b5⟩, _⟩ := h
  have e : tF (ndS σ j) 584 = tF σ 584 + 1 := tI_up b4 (by unfold tF at b5; omega)
  exact FLw_x h' (P := fTr) ndS_fr (fun i hi => by
    cases hf : fTr i with
    | false => rfl
    | true =>
      have := fin_mem (Q := fGx) (l := [576, 577, 578, 579, 580, 581, 582, 583, 584]) rfl i hf
      rw [this] at hi
      exact absurd hi (by decide)) (by omega) (by omega) (by omega)
theorem FLw_ai {n : Int32} {t : Int32 → Int32} {w : WD} {k : Int} {σ μ : mS} (h : FLw n t w k σ μ) {j i : Nat} {v : Int32} (hj : fGx j = true) : FLw n t w k (md_ai σ j i v) μ := by
  have h' := h
  obtain ⟨_, _, _, ⟨_, _, _, b4, b5⟩, _⟩ := h
  exact FLw_x h' (P := fGx) (mf_ai mf_rfl hj) (fun _ h => h) b4 (by show tF σ 584 ≤ _; omega) (Int.le_refl _)
theorem FLw_644 {n : Int32} {t : Int32 → Int32} {w : WD} {k : Int} {σ μ : mS} {v : Int32} (h : FLw n t w k σ μ) : FLw n t w k (md_pi σ 644 v) μ := by
  have h' := h
  obtain ⟨_, _, _, ⟨_, _, _, b4, b5⟩, _⟩ := h
  exact FLw_x h' (P := fGx) (mf_pi mf_rfl rfl) (fun _ h => h) b4 (by show tF σ 584 ≤ _; omega) (Int.le_refl _)
/-- the reference's fields that do not count after a failure -/
theorem FLw_mpi {n : Int32} {t : Int32 → Int32} {w : WD} {k : Int} {σ μ : mS} {j : Nat} {v : Int32} (h : FLw n t w k σ μ) (hj : fGm j = true) (h1 : ¬ (58 ≤ j ∧ j ≤ 66)) (h2 : j ≠ 75) (h3 : j ≠ 85) : FLw n t w k σ (md_pi μ j v) := by
  have h' := h
  obtain ⟨_, _, _, _, ⟨_, _, c3, _⟩, _⟩ := h
  have e : tF (md_pi μ j v) 75 = tF μ 75 := by unfold tF; rw [sF_pi, if_neg (fun q => h2 q.symm)]
  refine FLw_m h' (P := fun k => decide (k = j)) (mf_pi mf_rfl (by simp)) (fun i hi => ?_) (fun z => NXm_fr z (P := fun k => decide (k = j)) (mf_pi mf_rfl (by simp)) (fun k hk => ?_)) (by omega) (by omega) (Int.le_refl _) (by unfold tF; rw [sF_pi, if_neg (fun q => h3 q.symm)])
  · rw [decide_eq_false_iff_not]
    intro q
    rw [q, hj] at hi
    exact absurd hi (by decide)
  · rw [decide_eq_false_iff_not]
    intro q
    rw [q] at hk
    rcases hk with hk | hk
    · exact h1 hk
    · simp only [fGm, Bool.or_eq_true, decide_eq_true_eq] at hj
      omega
theorem FLw_mai {n : Int32} {t : Int32 → Int32} {w : WD} {k : Int} {σ μ : mS} {j i : Nat} {v : Int32} (h : FLw n t w k σ μ) (hj : fGm j = true) (h1 : ¬ (58 ≤ j ∧ j ≤ 66)) : FLw n t w k σ (md_ai μ j i v) := by
  have h' := h
  obtain ⟨_, _, _, _, ⟨_, _, c3, _⟩, _⟩ := h
  refine FLw_m h' (P := fun k => decide (k = j)) (mf_ai mf_rfl (by simp)) (fun i hi => ?_) (fun z => NXm_fr z (P := fun k => decide (k = j)) (mf_ai mf_rfl (by simp)) (fun k hk => ?_)) c3.1 (by show tF μ 75 ≤ _; omega) (Int.le_refl _) rfl
  · rw [decide_eq_false_iff_not]
    intro q
    rw [q, hj] at hi
    exact absurd hi (by decide)
  · rw [decide_eq_false_iff_not]
    intro q
    rw [q] at hk
    rcases hk with hk | hk
    · exact h1 hk
    · simp only [fGm, Bool.or_eq_true, decide_eq_true_eq] at hj
      omega
