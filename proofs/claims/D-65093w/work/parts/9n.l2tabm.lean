/-! LAYER 2: the reference's tables: makeTable -/
def FTm (σ : mS) (ts : List Int32) : Prop := 0 ≤ sF σ 29 ∧ sF σ 29 ≤ 3000 ∧ (∀ i, 0 ≤ i → i < sF σ 29 → 0 ≤ sI σ 28 i ∧ sI σ 28 i < 3000 ∧ sI σ 28 i ∉ ts) ∧ (∀ i j, 0 ≤ i → i < j → j < sF σ 29 → sI σ 28 i ≠ sI σ 28 j) ∧ (sF σ 29).toInt + ts.length = 3000 ∧ (sF σ 30).toInt = ts.length
def mT (k : Nat) : Bool := [18, 19, 20, 21, 22, 23, 24, 25, 27, 29, 30].contains k
theorem table_m0 {N : Nat} {σ : mS} (h : sF σ 29 = 0) : mm_makeTable N σ = bd (mm_breakOff N σ 3) (fun z => some (-1, z)) := by
  rw [mm_makeTable, if_pos]
  exact h
theorem table_m {N : Nat} {σ : mS} {ts : List Int32} {es ps : Int32 → List Int32} (M : MM σ ts es ps) (T : FTm σ ts) (hc : sF σ 29 ≠ 0) : ∃ t τ, 0 ≤ t ∧ t < 3000 ∧ t ∉ ts ∧ mm_makeTable N σ = some (t, τ) ∧ MM τ (t :: ts) (fU es t []) ps ∧ FTm τ (t :: ts) ∧ (∀ s, 0 ≤ s → sI τ 20 s = if s = t then -1 else sI σ 20 s) ∧ (∀ s, 0 ≤ s → sI τ 19 s = if s = t then sF σ 18 + 1 else sI σ 19 s) ∧ sF τ 18 = sF σ 18 + 1 ∧ sF τ 30 = sF σ 30 + 1 ∧ m_fr mT σ τ := by
  obtain ⟨T1, T2, T3, T4, T5, T6⟩ := T
  have c0 : 0 ≤ sF σ 29 - 1 := by lia
  have c1 : sF σ 29 - 1 < 3000 := by lia
  generalize htt : sI σ 28 (sF σ 29 - 1) = t
  have tt := T3 (sF σ 29 - 1) c0 (by lia)
  rw [htt] at tt
  obtain ⟨t0, t1, t2⟩ := tt
  generalize hτ : md_pi (md_ai (md_ai (md_ai (md_ai (md_ai (md_ai (md_ai (md_ai (md_pi (md_pi σ 29 (sF σ 29 - 1)) 18 (sF σ 18 + 1)) 19 t.toNatClampNeg (sF σ 18 + 1)) 20 t.toNatClampNeg (-1)) 21 t.toNatClampNeg (-1)) 22 t.toNatClampNeg (-1)) 23 t.toNatClampNeg 0) 24 t.toNatClampNeg 0) 25 t.toNatClampNeg 0) 27 t.toNatClampNeg 0) 30 (sF σ 30 + 1) = τ
  have fr : m_fr mT σ τ := by
    rw [← hτ]
    exact mf_pi (mf_ai (mf_ai (mf_ai (mf_ai (mf_ai (mf_ai (mf_ai (mf_ai (mf_pi (mf_pi mf_rfl rfl) rfl) rfl) rfl) rfl) rfl) rfl) rfl) rfl) rfl) rfl
  have a19 : ∀ s, 0 ≤ s → sI τ 19 s = if s = t then sF σ 18 + 1 else sI σ 19 s := fun s s0 => by
    rw [← hτ]; simp (disch := lia) only [sF_pi, sF_pl, sF_ai, sF_al, sG_pi, sG_pl, sG_ai, sG_al, sI_pi, sI_pl, sI_al, sI_ai1, sI_ai2, sJ_pi, sJ_pl, sJ_ai, sJ_al1, sJ_al2, Nat.reduceEqDiff, if_true, if_false, ne_eq, not_false_eq_true, ite_true, ite_false, sI_ai, true_and]
  have a20 : ∀ s, 0 ≤ s → sI τ 20 s = if s = t then -1 else sI σ 20 s := fun s s0 => by
    rw [← hτ]; simp (disch := lia) only [sF_pi, sF_pl, sF_ai, sF_al, sG_pi, sG_pl, sG_ai, sG_al, sI_pi, sI_pl, sI_al, sI_ai1, sI_ai2, sJ_pi, sJ_pl, sJ_ai, sJ_al1, sJ_al2, Nat.reduceEqDiff, if_true, if_false, ne_eq, not_false_eq_true, ite_true, ite_false, sI_ai, true_and]
  have a21 : ∀ s, 0 ≤ s → sI τ 21 s = if s = t then -1 else sI σ 21 s := fun s s0 => by
    rw [← hτ]; simp (disch := lia) only [sF_pi, sF_pl, sF_ai, sF_al, sG_pi, sG_pl, sG_ai, sG_al, sI_pi, sI_pl, sI_al, sI_ai1, sI_ai2, sJ_pi, sJ_pl, sJ_ai, sJ_al1, sJ_al2, Nat.reduceEqDiff, if_true, if_false, ne_eq, not_false_eq_true, ite_true, ite_false, sI_ai, true_and]
  have a22 : ∀ s, 0 ≤ s → sI τ 22 s = if s = t then -1 else sI σ 22 s := fun s s0 => by
    rw [← hτ]; simp (disch := lia) only [sF_pi, sF_pl, sF_ai, sF_al, sG_pi, sG_pl, sG_ai, sG_al, sI_pi, sI_pl, sI_al, sI_ai1, sI_ai2, sJ_pi, sJ_pl, sJ_ai, sJ_al1, sJ_al2, Nat.reduceEqDiff, if_true, if_false, ne_eq, not_false_eq_true, ite_true, ite_false, sI_ai, true_and]
  have a23 : ∀ s, 0 ≤ s → sI τ 23 s = if s = t then 0 else sI σ 23 s := fun s s0 => by
    rw [← hτ]; simp (disch := lia) only [sF_pi, sF_pl, sF_ai, sF_al, sG_pi, sG_pl, sG_ai, sG_al, sI_pi, sI_pl, sI_al, sI_ai1, sI_ai2, sJ_pi, sJ_pl, sJ_ai, sJ_al1, sJ_al2, Nat.reduceEqDiff, if_true, if_false, ne_eq, not_false_eq_true, ite_true, ite_false, sI_ai, true_and]
  have a24 : ∀ s, 0 ≤ s → sI τ 24 s = if s = t then 0 else sI σ 24 s := fun s s0 => by
    rw [← hτ]; simp (disch := lia) only [sF_pi, sF_pl, sF_ai, sF_al, sG_pi, sG_pl, sG_ai, sG_al, sI_pi, sI_pl, sI_al, sI_ai1, sI_ai2, sJ_pi, sJ_pl, sJ_ai, sJ_al1, sJ_al2, Nat.reduceEqDiff, if_true, if_false, ne_eq, not_false_eq_true, ite_true, ite_false, sI_ai, true_and]
  have a25 : ∀ s, 0 ≤ s → sI τ 25 s = if s = t then 0 else sI σ 25 s := fun s s0 => by
    rw [← hτ]; simp (disch := lia) only [sF_pi, sF_pl, sF_ai, sF_al, sG_pi, sG_pl, sG_ai, sG_al, sI_pi, sI_pl, sI_al, sI_ai1, sI_ai2, sJ_pi, sJ_pl, sJ_ai, sJ_al1, sJ_al2, Nat.reduceEqDiff, if_true, if_false, ne_eq, not_false_eq_true, ite_true, ite_false, sI_ai, true_and]
  have a27 : ∀ s, 0 ≤ s → sI τ 27 s = if s = t then 0 else sI σ 27 s := fun s s0 => by
    rw [← hτ]; simp (disch := lia) only [sF_pi, sF_pl, sF_ai, sF_al, sG_pi, sG_pl, sG_ai, sG_al, sI_pi, sI_pl, sI_al, sI_ai1, sI_ai2, sJ_pi, sJ_pl, sJ_ai, sJ_al1, sJ_al2, Nat.reduceEqDiff, if_true, if_false, ne_eq, not_false_eq_true, ite_true, ite_false, sI_ai, true_and]
  have f29 : sF τ 29 = sF σ 29 - 1 := by rw [← hτ]; simp only [sF_pi, sF_pl, sF_ai, sF_al, sG_pi, sG_pl, sG_ai, sG_al, sI_pi, sI_pl, sI_al, sI_ai1, sI_ai2, sJ_pi, sJ_pl, sJ_ai, sJ_al1, sJ_al2, Nat.reduceEqDiff, if_true, if_false, ne_eq, not_false_eq_true, ite_true, ite_false]
  have f30 : sF τ 30 = sF σ 30 + 1 := by rw [← hτ]; simp only [sF_pi, sF_pl, sF_ai, sF_al, sG_pi, sG_pl, sG_ai, sG_al, sI_pi, sI_pl, sI_al, sI_ai1, sI_ai2, sJ_pi, sJ_pl, sJ_ai, sJ_al1, sJ_al2, Nat.reduceEqDiff, if_true, if_false, ne_eq, not_false_eq_true, ite_true, ite_false]
  have f18 : sF τ 18 = sF σ 18 + 1 := by rw [← hτ]; simp only [sF_pi, sF_pl, sF_ai, sF_al, sG_pi, sG_pl, sG_ai, sG_al, sI_pi, sI_pl, sI_al, sI_ai1, sI_ai2, sJ_pi, sJ_pl, sJ_ai, sJ_al1, sJ_al2, Nat.reduceEqDiff, if_true, if_false, ne_eq, not_false_eq_true, ite_true, ite_false]
  have ne : ∀ s, s ∈ ts → s ≠ t := fun s hs' q => t2 (by rw [← q]; exact hs')
  have al : alm τ = alm σ := by funext x; simp only [alm]; rw [mf_I fr rfl]
  have lv : ∀ l k, mlv τ l k ↔ mlv σ l k := fun l k => mf_mlv fr rfl rfl rfl
  have g : ∀ k, mT k = false → sI τ k = sI σ k := fun k hk => by funext m; exact mf_I fr hk
  obtain ⟨F, B, E1, E2, E3, E4, E5, E6, E7, E8⟩ := M
  have F' : FM τ ts es ps := mf_FM fr ⟨rfl, rfl, rfl, rfl, rfl⟩ ⟨rfl, rfl, rfl, rfl, rfl⟩ F
  have sm : ts.map (fun s => (fU es t [] s).length) = ts.map (fun s => (es s).length) := List.map_congr_left (fun s hs' => by rw [fU_o (ne s hs')])
  refine ⟨t, τ, t0, t1, t2, ?_, ⟨⟨fun s hs' x hx => ?_, fun p p0 p1 => ?_, fun s hs' x y hx hy k => ?_⟩, fun s hs' => ?_, ?_, fun s hs' => ?_, by rw [mf_F fr rfl]; exact E3, by rw [mf_F fr rfl]; exact E4, fun i i0 i1 => ?_, by rw [g 39 rfl, mf_F fr rfl]; exact E6, ?_, ?_⟩, ⟨by rw [f29]; exact c0, by rw [f29]; lia, fun i i0 i1 => ?_, fun i j i0 ij j1 => ?_, ?_, ?_⟩, a20, a19, f18, f30, fr⟩
  · rw [← hτ]
    clear a19 a20 a21 a22 a23 a24 a25 a27 F B E2 E5 E6 T3 T4 lv F' ne g sm
    simp (disch := lia) only [mm_makeTable, lt, gd_in, if_pos, if_neg, ↓reduceIte, gd_z0, gd_z1, gd_tt, sF_fold, sG_fold, sI_fold, sJ_fold, sF_pi, sF_pl, sF_ai, sF_al, sG_pi, sG_pl, sG_ai, sG_al, sI_pi, sI_pl, sI_al, sI_ai1, sI_ai2, sJ_pi, sJ_pl, sJ_ai, sJ_al1, sJ_al2, Nat.reduceEqDiff, if_true, if_false, ne_eq, not_false_eq_true, ite_true, ite_false, hc, htt]
  · rcases List.mem_cons.mp hs' with q | q
    · subst q; rw [fU_s] at hx; exact absurd hx (by simp)
    · rw [fU_o (ne s q)] at hx; exact F'.1 s q x hx
  · obtain ⟨u1, u2, u3⟩ := F'.2.1 p p0 p1
    refine ⟨u1, u2, fun x => (u3 x).trans ⟨?_, ?_⟩⟩
    · rintro ⟨⟨s, s1, s2⟩, s3⟩
      exact ⟨⟨s, List.mem_cons_of_mem _ s1, by rw [fU_o (ne s s1)]; exact s2⟩, s3⟩
    · rintro ⟨⟨s, s1, s2⟩, s3⟩
      rcases List.mem_cons.mp s1 with q | q
      · subst q; rw [fU_s] at s2; exact absurd s2 (by simp)
      · rw [fU_o (ne s q)] at s2; exact ⟨⟨s, q, s2⟩, s3⟩
  · rcases List.mem_cons.mp hs' with q | q
    · subst q; rw [fU_s] at hx; exact absurd hx (by simp)
    · rw [fU_o (ne s q)] at hx hy; exact F'.2.2 s q x y hx hy k
  · rcases List.mem_cons.mp hs' with q | q
    · subst q
      rw [fU_s]
      simp only [HM]
      rw [a27 s t0, a25 s t0, if_pos rfl, if_pos rfl]
      exact ⟨by decide, by decide, by decide, by decide, fun i i0 i1 => by exfalso; lia, fun i j i0 ij j1 => by exfalso; lia, fun k k0 k1 _ => by exfalso; lia, fun i i0 i1 => by exfalso; lia⟩
    · rw [fU_o (ne s q)]
      have s0 := (E2 s q).1
      have h := B s q
      simp only [HM] at h ⊢
      have imh : mh τ s = mh σ s := by funext i; exact mf_I fr rfl
      rw [a27 s s0, a25 s s0, if_neg (ne s q), if_neg (ne s q), imh]
      exact hm_mv (lv (es s)) h
  · exact List.nodup_cons.mpr ⟨t2, E1⟩
  · rcases List.mem_cons.mp hs' with q | q
    · subst q
      rw [fU_s]
      exact ⟨t0, t1, by rw [a21 s t0, if_pos rfl]; rfl, by rw [a22 s t0, if_pos rfl]; rfl, by simp, by rw [a23 s t0, if_pos rfl]; rfl, by rw [a24 s t0, if_pos rfl]; rfl⟩
    · rw [fU_o (ne s q)]
      obtain ⟨s0, s1, z1, z2, z3, z4, z5⟩ := E2 s q
      rw [a21 s s0, a22 s s0, a23 s s0, a24 s s0, if_neg (ne s q), if_neg (ne s q), if_neg (ne s q), if_neg (ne s q), g 36 rfl, al]
      exact ⟨s0, s1, z1, z2, z3, z4, z5⟩
  · rw [mf_F fr rfl] at i1
    rw [g 39 rfl]
    obtain ⟨e0, e1, e2⟩ := E5 i i0 i1
    refine ⟨e0, e1, fun s hs' => ?_⟩
    rcases List.mem_cons.mp hs' with q | q
    · subst q; rw [fU_s]; simp
    · rw [fU_o (ne s q)]; exact e2 s q
  · rw [mf_F fr rfl]
    simp only [List.map_cons, List.sum_cons, fU_s, List.length_nil, sm]
    omega
  · rw [mf_F fr rfl]
    simp only [List.map_cons, List.sum_cons, fU_s, List.length_nil, sm]
    omega
  · rw [f29] at i1
    rw [g 28 rfl]
    obtain ⟨x0, x1, x2⟩ := T3 i i0 (by lia)
    refine ⟨x0, x1, fun q => ?_⟩
    rcases List.mem_cons.mp q with w | w
    · exact T4 i (sF σ 29 - 1) i0 (by lia) (by lia) (by rw [w, htt])
    · exact x2 w
  · rw [f29] at j1
    rw [g 28 rfl]
    exact T4 i j i0 ij (by lia)
  · rw [f29]
    have r := tI_rng (sF σ 29)
    rw [tI_le] at T1
    have z : (0 : Int32).toInt = 0 := rfl
    simp only [List.length_cons]
    rw [tI_sub] <;> simp only [show (1 : Int32).toInt = 1 from rfl] <;> omega
  · rw [f30]
    have r := tI_rng (sF σ 30)
    rw [tI_le] at T1
    have z : (0 : Int32).toInt = 0 := rfl
    simp only [List.length_cons]
    rw [tI_add] <;> simp only [show (1 : Int32).toInt = 1 from rfl] <;> omega
