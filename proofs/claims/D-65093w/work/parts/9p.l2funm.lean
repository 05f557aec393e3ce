/-! LAYER 2: functions and boxes of the reference -/
def CM (σ : mS) (o : List Int32) : Prop := FS (sI σ 47) (sF σ 48) 4000 64 o ∧ (sF σ 49).toInt = o.length ∧ 0 ≤ sF σ 52 ∧ sF σ 52 ≤ 12000
def fM (k : Nat) : Bool := [18, 44, 45, 46, 48, 49, 52].contains k
theorem function_m0 {N : Nat} {σ : mS} {c n : Int32} (h : sF σ 48 = 0 ∨ 12000 < sF σ 52 + n) : mm_makeFunction N σ c n = bd (mm_breakOff N σ 3) (fun z => some (-1, z)) := by
  by_cases d : sF σ 48 = 0
  · rw [mm_makeFunction, if_pos]
    · rfl
    · exact d
  · rw [mm_makeFunction, if_neg, if_neg]
    · rfl
    · show ¬ sF σ 52 + n ≤ 12000
      lia
    · exact d
theorem FS_len {fs : Int32 → Int32} {c M p : Int32} {o : List Int32} (H : FS fs c M p o) (h : c ≠ 0) : (o.length : Int) < M.toInt ∧ 0 ≤ c.toInt := by
  have h1 := H.1
  have h7 := H.2.2.2.2.2.2
  have hp : 0 < c := by lia
  rw [tI_lt] at hp
  have z : (0 : Int32).toInt = 0 := rfl
  exact ⟨by omega, by omega⟩
theorem function_m {N : Nat} {σ : mS} {o : List Int32} {c n : Int32} (H : CM σ o) (n0 : 0 ≤ n) (n1 : n ≤ 12000) (c1 : sF σ 48 ≠ 0) (c2 : sF σ 52 + n ≤ 12000) : ∃ h τ, mm_makeFunction N σ c n = some (h, τ) ∧ CM τ (o ++ [h]) ∧ h ∉ o ∧ 64 ≤ h ∧ h < 4064 ∧ (∀ x, 0 ≤ x → sI τ 44 x = if x = h then sF σ 18 + 1 else sI σ 44 x) ∧ (∀ x, 0 ≤ x → sI τ 45 x = if x = h then c else sI σ 45 x) ∧ (∀ x, 0 ≤ x → sI τ 46 x = if x = h then sF σ 52 else sI σ 46 x) ∧ sF τ 18 = sF σ 18 + 1 ∧ sF τ 52 = sF σ 52 + n ∧ sF τ 49 = sF σ 49 + 1 ∧ m_fr fM σ τ := by
  obtain ⟨H1, H2, H3, H4⟩ := H
  obtain ⟨f1, f2, f3, f4, f5, f6⟩ := FS_alloc H1 c1 (by decide) (by decide) (by decide)
  obtain ⟨l1, l2⟩ := FS_len H1 c1
  generalize hh : 64 + sI σ 47 (sF σ 48 - 1) = h at *
  have lo : 64 ≤ h := by lia
  have hi : h < 4064 := by lia
  have h00 : 0 ≤ h := by lia
  refine ⟨h, md_pi (md_pi (md_ai (md_ai (md_ai (md_pi (md_pi σ 48 (sF σ 48 - 1)) 18 (sF σ 18 + 1)) 44 h.toNatClampNeg (sF σ 18 + 1)) 45 h.toNatClampNeg c) 46 h.toNatClampNeg (sF σ 52)) 52 (sF σ 52 + n)) 49 (sF σ 49 + 1), ?_, ⟨?_, ?_, ?_, ?_⟩, f5, lo, hi, fun x x0 => ?_, fun x x0 => ?_, fun x x0 => ?_, ?_, ?_, ?_, mf_pi (mf_pi (mf_ai (mf_ai (mf_ai (mf_pi (mf_pi mf_rfl rfl) rfl) rfl) rfl) rfl) rfl) rfl⟩
  · simp (disch := lia) only [mm_makeFunction, lt, gd_in, if_pos, if_neg, ↓reduceIte, gd_z0, gd_z1, gd_tt, sF_fold, sG_fold, sI_fold, sJ_fold, sF_pi, sF_pl, sF_ai, sF_al, sG_pi, sG_pl, sG_ai, sG_al, sI_pi, sI_pl, sI_al, sI_ai1, sI_ai2, sJ_pi, sJ_pl, sJ_ai, sJ_al1, sJ_al2, Nat.reduceEqDiff, if_true, if_false, ne_eq, not_false_eq_true, ite_true, ite_false, hh, c1]
  · have e : sI (md_pi (md_pi (md_ai (md_ai (md_ai (md_pi (md_pi σ 48 (sF σ 48 - 1)) 18 (sF σ 18 + 1)) 44 h.toNatClampNeg (sF σ 18 + 1)) 45 h.toNatClampNeg c) 46 h.toNatClampNeg (sF σ 52)) 52 (sF σ 52 + n)) 49 (sF σ 49 + 1)) 47 = sI σ 47 := by
      funext m
      simp (disch := lia) only [sF_pi, sF_pl, sF_ai, sF_al, sG_pi, sG_pl, sG_ai, sG_al, sI_pi, sI_pl, sI_al, sI_ai1, sI_ai2, sJ_pi, sJ_pl, sJ_ai, sJ_al1, sJ_al2, Nat.reduceEqDiff, if_true, if_false, ne_eq, not_false_eq_true, ite_true, ite_false]
    rw [e]
    simp only [sF_pi, sF_pl, sF_ai, sF_al, sG_pi, sG_pl, sG_ai, sG_al, sI_pi, sI_pl, sI_al, sI_ai1, sI_ai2, sJ_pi, sJ_pl, sJ_ai, sJ_al1, sJ_al2, Nat.reduceEqDiff, if_true, if_false, ne_eq, not_false_eq_true, ite_true, ite_false]
    exact f6
  · simp only [sF_pi, sF_pl, sF_ai, sF_al, sG_pi, sG_pl, sG_ai, sG_al, sI_pi, sI_pl, sI_al, sI_ai1, sI_ai2, sJ_pi, sJ_pl, sJ_ai, sJ_al1, sJ_al2, Nat.reduceEqDiff, if_true, if_false, ne_eq, not_false_eq_true, ite_true, ite_false, List.length_append, List.length_cons, List.length_nil]
    have z : (4000 : Int32).toInt = 4000 := rfl
    rw [tI_add] <;> simp only [show (1 : Int32).toInt = 1 from rfl] <;> omega
  · simp only [sF_pi, sF_pl, sF_ai, sF_al, sG_pi, sG_pl, sG_ai, sG_al, sI_pi, sI_pl, sI_al, sI_ai1, sI_ai2, sJ_pi, sJ_pl, sJ_ai, sJ_al1, sJ_al2, Nat.reduceEqDiff, if_true, if_false, ne_eq, not_false_eq_true, ite_true, ite_false]; lia
  · simp only [sF_pi, sF_pl, sF_ai, sF_al, sG_pi, sG_pl, sG_ai, sG_al, sI_pi, sI_pl, sI_al, sI_ai1, sI_ai2, sJ_pi, sJ_pl, sJ_ai, sJ_al1, sJ_al2, Nat.reduceEqDiff, if_true, if_false, ne_eq, not_false_eq_true, ite_true, ite_false]; exact c2
  · simp (disch := lia) only [sF_pi, sF_pl, sF_ai, sF_al, sG_pi, sG_pl, sG_ai, sG_al, sI_pi, sI_pl, sI_al, sI_ai1, sI_ai2, sJ_pi, sJ_pl, sJ_ai, sJ_al1, sJ_al2, Nat.reduceEqDiff, if_true, if_false, ne_eq, not_false_eq_true, ite_true, ite_false, sI_ai, true_and]
  · simp (disch := lia) only [sF_pi, sF_pl, sF_ai, sF_al, sG_pi, sG_pl, sG_ai, sG_al, sI_pi, sI_pl, sI_al, sI_ai1, sI_ai2, sJ_pi, sJ_pl, sJ_ai, sJ_al1, sJ_al2, Nat.reduceEqDiff, if_true, if_false, ne_eq, not_false_eq_true, ite_true, ite_false, sI_ai, true_and]
  · simp (disch := lia) only [sF_pi, sF_pl, sF_ai, sF_al, sG_pi, sG_pl, sG_ai, sG_al, sI_pi, sI_pl, sI_al, sI_ai1, sI_ai2, sJ_pi, sJ_pl, sJ_ai, sJ_al1, sJ_al2, Nat.reduceEqDiff, if_true, if_false, ne_eq, not_false_eq_true, ite_true, ite_false, sI_ai, true_and]
  · simp only [sF_pi, sF_pl, sF_ai, sF_al, sG_pi, sG_pl, sG_ai, sG_al, sI_pi, sI_pl, sI_al, sI_ai1, sI_ai2, sJ_pi, sJ_pl, sJ_ai, sJ_al1, sJ_al2, Nat.reduceEqDiff, if_true, if_false, ne_eq, not_false_eq_true, ite_true, ite_false]
  · simp only [sF_pi, sF_pl, sF_ai, sF_al, sG_pi, sG_pl, sG_ai, sG_al, sI_pi, sI_pl, sI_al, sI_ai1, sI_ai2, sJ_pi, sJ_pl, sJ_ai, sJ_al1, sJ_al2, Nat.reduceEqDiff, if_true, if_false, ne_eq, not_false_eq_true, ite_true, ite_false]
  · simp only [sF_pi, sF_pl, sF_ai, sF_al, sG_pi, sG_pl, sG_ai, sG_al, sI_pi, sI_pl, sI_al, sI_ai1, sI_ai2, sJ_pi, sJ_pl, sJ_ai, sJ_al1, sJ_al2, Nat.reduceEqDiff, if_true, if_false, ne_eq, not_false_eq_true, ite_true, ite_false]
def BM (σ : mS) (bs : List Int32) : Prop := FS (sI σ 55) (sF σ 56) 12000 0 bs ∧ (sF σ 57).toInt = bs.length
def bMk (k : Nat) : Bool := [53, 54, 56, 57].contains k
theorem box_m0 {N : Nat} {σ : mS} {t : Int32} {v : Int64} (h : sF σ 56 = 0) : mm_makeBox N σ t v = bd (mm_breakOff N σ 3) (fun z => some (-1, z)) := by
  rw [mm_makeBox, if_pos]; exact h
theorem box_m {N : Nat} {σ : mS} {bs : List Int32} {t : Int32} {v : Int64} (H : BM σ bs) (g0 : 0 ≤ t) (g1 : t ≤ 8) (hc : sF σ 56 ≠ 0) : ∃ b τ, mm_makeBox N σ t v = some (b, τ) ∧ BM τ (bs ++ [b]) ∧ b ∉ bs ∧ 0 ≤ b ∧ b < 12000 ∧ (∀ x, 0 ≤ x → sI τ 53 x = if x = b then t else sI σ 53 x) ∧ (∀ x, 0 ≤ x → sJ τ 54 x = if x = b then v else sJ σ 54 x) ∧ sF τ 57 = sF σ 57 + 1 ∧ m_fr bMk σ τ := by
  obtain ⟨H1, H2⟩ := H
  obtain ⟨f1, f2, f3, f4, f5, f6⟩ := FS_alloc H1 hc (by decide) (by decide) (by decide)
  obtain ⟨l1, l2⟩ := FS_len H1 hc
  have zz : ∀ x : Int32, 0 + x = x := fun x => by lia
  rw [zz] at f5 f6
  generalize hb : sI σ 55 (sF σ 56 - 1) = b at *
  have nt := nar_tag g0 g1
  refine ⟨b, md_pi (md_al (md_ai (md_pi σ 56 (sF σ 56 - 1)) 53 b.toNatClampNeg t) 54 b.toNatClampNeg v) 57 (sF σ 57 + 1), ?_, ⟨?_, ?_⟩, f5, f3, f4, fun x x0 => ?_, fun x x0 => ?_, ?_, mf_pi (mf_al (mf_ai (mf_pi mf_rfl rfl) rfl) rfl) rfl⟩
  · simp (disch := lia) only [mm_makeBox, lt, gd_in, if_pos, if_neg, ↓reduceIte, gd_z0, gd_z1, gd_tt, sF_fold, sG_fold, sI_fold, sJ_fold, sF_pi, sF_pl, sF_ai, sF_al, sG_pi, sG_pl, sG_ai, sG_al, sI_pi, sI_pl, sI_al, sI_ai1, sI_ai2, sJ_pi, sJ_pl, sJ_ai, sJ_al1, sJ_al2, Nat.reduceEqDiff, if_true, if_false, ne_eq, not_false_eq_true, ite_true, ite_false, hb, hc, nt]
  · have e : sI (md_pi (md_al (md_ai (md_pi σ 56 (sF σ 56 - 1)) 53 b.toNatClampNeg t) 54 b.toNatClampNeg v) 57 (sF σ 57 + 1)) 55 = sI σ 55 := by
      funext m
      simp (disch := lia) only [sF_pi, sF_pl, sF_ai, sF_al, sG_pi, sG_pl, sG_ai, sG_al, sI_pi, sI_pl, sI_al, sI_ai1, sI_ai2, sJ_pi, sJ_pl, sJ_ai, sJ_al1, sJ_al2, Nat.reduceEqDiff, if_true, if_false, ne_eq, not_false_eq_true, ite_true, ite_false]
    rw [e]
    simp only [sF_pi, sF_pl, sF_ai, sF_al, sG_pi, sG_pl, sG_ai, sG_al, sI_pi, sI_pl, sI_al, sI_ai1, sI_ai2, sJ_pi, sJ_pl, sJ_ai, sJ_al1, sJ_al2, Nat.reduceEqDiff, if_true, if_false, ne_eq, not_false_eq_true, ite_true, ite_false]
    exact f6
  · simp only [sF_pi, sF_pl, sF_ai, sF_al, sG_pi, sG_pl, sG_ai, sG_al, sI_pi, sI_pl, sI_al, sI_ai1, sI_ai2, sJ_pi, sJ_pl, sJ_ai, sJ_al1, sJ_al2, Nat.reduceEqDiff, if_true, if_false, ne_eq, not_false_eq_true, ite_true, ite_false, List.length_append, List.length_cons, List.length_nil]
    have z : (12000 : Int32).toInt = 12000 := rfl
    rw [tI_add] <;> simp only [show (1 : Int32).toInt = 1 from rfl] <;> omega
  · simp (disch := lia) only [sF_pi, sF_pl, sF_ai, sF_al, sG_pi, sG_pl, sG_ai, sG_al, sI_pi, sI_pl, sI_al, sI_ai1, sI_ai2, sJ_pi, sJ_pl, sJ_ai, sJ_al1, sJ_al2, Nat.reduceEqDiff, if_true, if_false, ne_eq, not_false_eq_true, ite_true, ite_false, sI_ai, true_and]
  · simp (disch := lia) only [sF_pi, sF_pl, sF_ai, sF_al, sG_pi, sG_pl, sG_ai, sG_al, sI_pi, sI_pl, sI_al, sI_ai1, sI_ai2, sJ_pi, sJ_pl, sJ_ai, sJ_al1, sJ_al2, Nat.reduceEqDiff, if_true, if_false, ne_eq, not_false_eq_true, ite_true, ite_false, sJ_al, true_and]
  · simp only [sF_pi, sF_pl, sF_ai, sF_al, sG_pi, sG_pl, sG_ai, sG_al, sI_pi, sI_pl, sI_al, sI_ai1, sI_ai2, sJ_pi, sJ_pl, sJ_ai, sJ_al1, sJ_al2, Nat.reduceEqDiff, if_true, if_false, ne_eq, not_false_eq_true, ite_true, ite_false]
