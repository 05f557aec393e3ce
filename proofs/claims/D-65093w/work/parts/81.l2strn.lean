/-! LAYER 2: the reference's strings: makeString -/
/-- a row k of which the first c are free places below M, each once; o are those that are in use, told by p behind -/
def FS (fs : Int32 → Int32) (c M p : Int32) (o : List Int32) : Prop := 0 ≤ c ∧ c ≤ M ∧ (∀ i, 0 ≤ i → i < c → 0 ≤ fs i ∧ fs i < M ∧ p + fs i ∉ o) ∧ (∀ i j, 0 ≤ i → i < j → j < c → fs i ≠ fs j) ∧ o.Nodup ∧ (∀ x, x ∈ o → p ≤ x ∧ x < p + M) ∧ c.toInt + o.length = M.toInt
theorem FS_alloc {fs : Int32 → Int32} {c M p : Int32} {o : List Int32} (H : FS fs c M p o) (h : c ≠ 0) (hp : 0 ≤ p) (hM : M ≤ 100000) (hp2 : p ≤ 100000) : 0 ≤ c - 1 ∧ c - 1 < M ∧ 0 ≤ fs (c - 1) ∧ fs (c - 1) < M ∧ p + fs (c - 1) ∉ o ∧ FS fs (c - 1) M p (o ++ [p + fs (c - 1)]) := by
  obtain ⟨h1, h2, h3, h4, h5, h6, h7⟩ := H
  have q := h3 (c - 1) (by lia) (by lia)
  refine ⟨by lia, by lia, q.1, q.2.1, q.2.2, by lia, by lia, fun i i0 i1 => ?_, fun i j i0 i1 j1 => h4 i j i0 i1 (by lia), ?_, fun x hx => ?_, ?_⟩
  · have q' := h3 i i0 (by lia)
    refine ⟨q'.1, q'.2.1, fun w => ?_⟩
    rcases List.mem_append.mp w with w | w
    · exact q'.2.2 w
    · have e : p + fs i = p + fs (c - 1) := by simpa using w
      exact h4 i (c - 1) i0 i1 (by lia) (by lia)
  · rw [List.nodup_append]
    exact ⟨h5, by simp, fun a ha b hb e => q.2.2 (by simp at hb; rw [← hb, ← e]; exact ha)⟩
  · rcases List.mem_append.mp hx with w | w
    · exact h6 x w
    · have e : x = p + fs (c - 1) := by simpa using w
      have := q.1
      have := q.2.1
      exact ⟨by lia, by lia⟩
  · have e : (c - 1).toInt = c.toInt - 1 := by
      have h1' : (0 : Int32) < c := by lia
      rw [tI_lt] at h1'
      have z : (0 : Int32).toInt = 0 := rfl
      have := tI_rng c
      rw [tI_sub] <;> simp only [show (1 : Int32).toInt = 1 from rfl] <;> omega
    rw [List.length_append, e]
    simp
    omega
/-- the made ones -/
def SM (σ : mS) (o : List Int32) : Prop := FS (sI σ 14) (sF σ 15) 12000 30000 o ∧ (sF σ 13).toInt = o.length ∧ 0 ≤ sF σ 12 ∧ sF σ 12 ≤ 300000 ∧ (∀ x, x ∈ o → 0 ≤ sI σ 2 x ∧ 0 ≤ sI σ 3 x ∧ sI σ 3 x ≤ 300000 ∧ sI σ 2 x ≤ 300000 ∧ sI σ 2 x + sI σ 3 x ≤ sF σ 12 ∧ m_hs σ x)
theorem SM_mem {σ : mS} {o : List Int32} (H : SM σ o) {x : Int32} (hx : x ∈ o) : m_sv σ x ∧ 30000 ≤ x ∧ m_hs σ x := by
  obtain ⟨h1, h2, h3, h4, h5⟩ := H
  have := h1.2.2.2.2.2.1 x hx
  obtain ⟨q1, q2, q3, q4, q5, q6⟩ := h5 x hx
  exact ⟨⟨by lia, by lia, q1, q2, q4, q3, by lia, fun q => by lia⟩, this.1, q6⟩
theorem mkm_lp {N : Nat} {σ : mS} {n h B : Int32} (hn : sF σ 17 = n) (n1 : n ≤ 4400) (hB : sF σ 12 = B) (B0 : 0 ≤ B) (B1 : B ≤ 300000) (Bn : B + n ≤ 300000) (h0 : 30000 ≤ h) (h1 : h < 42000) : ∀ (k : Nat) (i : Int32), 0 ≤ i → i ≤ n → (n.toInt - i.toInt).toNat < k → ∀ g : Nat → Int32, (∀ m : Int32, 0 ≤ m → m < i → g (B + m).toNatClampNeg &&& 255 = sI σ 16 m &&& 255) → (∀ m : Int32, 0 ≤ m → m < B ∨ B + i ≤ m → g m.toNatClampNeg = sI σ 10 m) → ∃ g' : Nat → Int32, mm_makeString_57 N k h (hof 7 (fun m => sI σ 16 m &&& 255) i) i (md_row σ 10 g) = some (h, md_pi (md_pi (md_ai (md_ai (md_ai (md_row σ 10 g') 2 h.toNatClampNeg B) 3 h.toNatClampNeg n) 4 h.toNatClampNeg (hof 7 (fun m => sI σ 16 m &&& 255) n)) 12 (B + n)) 13 (sF σ 13 + 1)) ∧ (∀ m : Int32, 0 ≤ m → m < n → g' (B + m).toNatClampNeg &&& 255 = sI σ 16 m &&& 255) ∧ (∀ m : Int32, 0 ≤ m → m < B ∨ B + n ≤ m → g' m.toNatClampNeg = sI σ 10 m) := by
  refine loop_up _ (fun k i i0 i1 ih g g1 g2 => ?_)
  rw [mm_makeString_57]
  by_cases c : i < n
  · simp (disch := lia) only [lt, gd_in, if_pos, if_neg, ↓reduceIte, gd_z0, gd_z1, gd_tt, sF_fold, sG_fold, sI_fold, sJ_fold, sF_row, sI_row1, hn, hB, row_ai, mm_mix, bd]
    have e := hof_s (s := 7) (f := fun m => sI σ 16 m &&& 255) i0 (by lia)
    rw [← e]
    refine ih c _ (fun m m0 m1 => ?_) (fun m m0 m1 => ?_)
    · rw [upd_cl (by lia) (by lia)]
      by_cases e : m = i
      · subst e; rw [if_pos rfl, b_mask]
      · rw [if_neg (by lia)]; exact g1 m m0 (by lia)
    · rw [upd_cl (by lia) (by lia), if_neg (by lia)]; exact g2 m m0 (by lia)
  · have e : i = n := by lia
    subst e
    refine ⟨g, ?_, g1, g2⟩
    simp (disch := lia) only [lt, gd_in, if_pos, if_neg, ↓reduceIte, gd_z0, gd_z1, gd_tt, sF_fold, sG_fold, sI_fold, sJ_fold, sF_pi, sF_pl, sF_ai, sF_al, sG_pi, sG_pl, sG_ai, sG_al, sI_pi, sI_pl, sI_al, sI_ai1, sI_ai2, sJ_pi, sJ_pl, sJ_ai, sJ_al1, sJ_al2, Nat.reduceEqDiff, if_true, if_false, ne_eq, not_false_eq_true, ite_true, ite_false, sF_row, hB, hn]
/-- only these fields change -/
def m_fr (P : Nat → Bool) (σ τ : mS) : Prop := (∀ k, P k = false → τ.1 k = σ.1 k) ∧ (∀ k, P k = false → τ.2.1 k = σ.2.1 k) ∧ (∀ k, P k = false → τ.2.2.1 k = σ.2.2.1 k) ∧ (∀ k, P k = false → τ.2.2.2 k = σ.2.2.2 k)
theorem mf_rfl {P : Nat → Bool} {σ : mS} : m_fr P σ σ := ⟨fun _ _ => rfl, fun _ _ => rfl, fun _ _ => rfl, fun _ _ => rfl⟩
theorem mf_tr {P : Nat → Bool} {σ τ υ : mS} (h : m_fr P σ τ) (h' : m_fr P τ υ) : m_fr P σ υ := ⟨fun k hk => (h'.1 k hk).trans (h.1 k hk), fun k hk => (h'.2.1 k hk).trans (h.2.1 k hk), fun k hk => (h'.2.2.1 k hk).trans (h.2.2.1 k hk), fun k hk => (h'.2.2.2 k hk).trans (h.2.2.2 k hk)⟩
theorem mf_mono {P Q : Nat → Bool} {σ τ : mS} (h : m_fr P σ τ) (hi : ∀ k, Q k = false → P k = false) : m_fr Q σ τ := ⟨fun k hk => h.1 k (hi k hk), fun k hk => h.2.1 k (hi k hk), fun k hk => h.2.2.1 k (hi k hk), fun k hk => h.2.2.2 k (hi k hk)⟩
theorem mf_ne {P : Nat → Bool} {j k : Nat} (hk : P k = true) (hj : P j = false) : j ≠ k := fun e => by rw [e, hk] at hj; exact absurd hj (by decide)
theorem mf_pi {P : Nat → Bool} {k : Nat} {σ τ : mS} {v : Int32} (h : m_fr P σ τ) (hk : P k = true) : m_fr P σ (md_pi τ k v) := ⟨fun j hj => by rw [pi_F, if_neg (mf_ne hk hj)]; exact h.1 j hj, h.2.1, h.2.2.1, h.2.2.2⟩
theorem mf_pl {P : Nat → Bool} {k : Nat} {σ τ : mS} {v : Int64} (h : m_fr P σ τ) (hk : P k = true) : m_fr P σ (md_pl τ k v) := ⟨h.1, fun j hj => by rw [pl_G, if_neg (mf_ne hk hj)]; exact h.2.1 j hj, h.2.2.1, h.2.2.2⟩
theorem mf_ai {P : Nat → Bool} {k i : Nat} {σ τ : mS} {v : Int32} (h : m_fr P σ τ) (hk : P k = true) : m_fr P σ (md_ai τ k i v) := ⟨h.1, h.2.1, fun j hj => by rw [ai_I, if_neg (mf_ne hk hj)]; exact h.2.2.1 j hj, h.2.2.2⟩
theorem mf_al {P : Nat → Bool} {k i : Nat} {σ τ : mS} {v : Int64} (h : m_fr P σ τ) (hk : P k = true) : m_fr P σ (md_al τ k i v) := ⟨h.1, h.2.1, h.2.2.1, fun j hj => by rw [al_J, if_neg (mf_ne hk hj)]; exact h.2.2.2 j hj⟩
theorem mf_row {P : Nat → Bool} {k : Nat} {σ τ : mS} {g : Nat → Int32} (h : m_fr P σ τ) (hk : P k = true) : m_fr P σ (md_row τ k g) := ⟨h.1, h.2.1, fun j hj => by simp only [md_row, va_up]; rw [if_neg (mf_ne hk hj)]; exact h.2.2.1 j hj, h.2.2.2⟩
theorem mf_F {P : Nat → Bool} {k : Nat} {σ τ : mS} (h : m_fr P σ τ) (hk : P k = false) : sF τ k = sF σ k := h.1 k hk
theorem mf_G {P : Nat → Bool} {k : Nat} {σ τ : mS} (h : m_fr P σ τ) (hk : P k = false) : sG τ k = sG σ k := h.2.1 k hk
theorem mf_I {P : Nat → Bool} {k : Nat} {σ τ : mS} {m : Int32} (h : m_fr P σ τ) (hk : P k = false) : sI τ k m = sI σ k m := congrFun (h.2.2.1 k hk) _
theorem mf_J {P : Nat → Bool} {k : Nat} {σ τ : mS} {m : Int32} (h : m_fr P σ τ) (hk : P k = false) : sJ τ k m = sJ σ k m := congrFun (h.2.2.2 k hk) _
def m_sm (σ τ : mS) (g : Int32) : Prop := sI τ 2 g = sI σ 2 g ∧ sI τ 3 g = sI σ 3 g ∧ sI τ 4 g = sI σ 4 g ∧ ∀ k, 0 ≤ k → k < sI σ 3 g → m_by τ g k = m_by σ g k
theorem msm_sv {σ τ : mS} {g : Int32} (h : m_sm σ τ g) (hv : m_sv σ g) : m_sv τ g := by
  obtain ⟨s1, s2, _, _⟩ := h
  simp only [m_sv, s1, s2]
  exact hv
theorem msm_hs {σ τ : mS} {g : Int32} (h : m_sm σ τ g) (h0 : 0 ≤ m_sz σ g) (hv : m_hs σ g) : m_hs τ g := by
  obtain ⟨s1, s2, s3, s4⟩ := h
  simp only [m_hs, m_sz, s2, s3] at *
  rw [hv]
  exact hof_congr h0 (fun k k0 k1 => (s4 k k0 k1).symm)
def mkm_post (σ τ : mS) (o : List Int32) (h : Int32) : Prop := SM τ (o ++ [h]) ∧ h ∉ o ∧ 30000 ≤ h ∧ h < 42000 ∧ m_sz τ h = sF σ 17 ∧ (∀ k, 0 ≤ k → k < sF σ 17 → m_by τ h k = sI σ 16 k &&& 255) ∧ sF τ 12 = sF σ 12 + sF σ 17 ∧ sF τ 13 = sF σ 13 + 1 ∧ (∀ g, 0 ≤ g → g ∈ o ∨ g < 30000 → m_sm σ τ g) ∧ m_fr (fun k => [2, 3, 4, 10, 12, 13, 15].contains k) σ τ
theorem make_m0 {N : Nat} {σ : mS} (h : sF σ 15 = 0 ∨ 300000 < sF σ 12 + sF σ 17) : mm_makeString N σ = bd (mm_breakOff N σ 3) (fun z => some (-1, z)) := by
  by_cases c : sF σ 15 = 0
  · simp (disch := lia) only [mm_makeString, mm_makeString_21, lt, gd_in, if_pos, if_neg, ↓reduceIte, gd_z0, gd_z1, gd_tt, sF_fold, sG_fold, sI_fold, sJ_fold]
  · simp (disch := lia) only [mm_makeString, mm_makeString_21, lt, gd_in, if_pos, if_neg, ↓reduceIte, gd_z0, gd_z1, gd_tt, sF_fold, sG_fold, sI_fold, sJ_fold]
theorem make_m {N : Nat} (hN : BIG ≤ N) {σ : mS} {o : List Int32} (H : SM σ o) (n0 : 0 ≤ sF σ 17) (n1 : sF σ 17 ≤ 4400) (c1 : sF σ 15 ≠ 0) (c2 : sF σ 12 + sF σ 17 ≤ 300000) : ∃ h τ, mm_makeString N σ = some (h, τ) ∧ mkm_post σ τ o h := by
  obtain ⟨H1, H2, H3, H4, H5⟩ := H
  obtain ⟨f1, f2, f3, f4, f5, f6⟩ := FS_alloc H1 c1 (by decide) (by decide) (by decide)
  have lo : 30000 ≤ 30000 + sI σ 14 (sF σ 15 - 1) := by lia
  have hi : 30000 + sI σ 14 (sF σ 15 - 1) < 42000 := by lia
  obtain ⟨g, g1, g2, g3⟩ := mkm_lp (N := N) (σ := md_pi σ 15 (sF σ 15 - 1)) (n := sF σ 17) (B := sF σ 12) (h := 30000 + sI σ 14 (sF σ 15 - 1)) (by simp only [sF_pi, sF_pl, sF_ai, sF_al, sG_pi, sG_pl, sG_ai, sG_al, sI_pi, sI_pl, sI_al, sI_ai1, sI_ai2, sJ_pi, sJ_pl, sJ_ai, sJ_al1, sJ_al2, Nat.reduceEqDiff, if_true, if_false, ne_eq, not_false_eq_true, ite_true, ite_false]) n1 (by simp only [sF_pi, sF_pl, sF_ai, sF_al, sG_pi, sG_pl, sG_ai, sG_al, sI_pi, sI_pl, sI_al, sI_ai1, sI_ai2, sJ_pi, sJ_pl, sJ_ai, sJ_al1, sJ_al2, Nat.reduceEqDiff, if_true, if_false, ne_eq, not_false_eq_true, ite_true, ite_false]) H3 H4 c2 lo hi N 0 (by lia) n0 (big_d hN) (σ.2.2.1 10) (fun m m0 m1 => by lia) (fun m m0 m1 => rfl)
  have e0 : md_row (md_pi σ 15 (sF σ 15 - 1)) 10 (σ.2.2.1 10) = md_pi σ 15 (sF σ 15 - 1) := row_id (σ := md_pi σ 15 (sF σ 15 - 1))
  rw [e0, hof_0] at g1
  simp only [sF_pi, sF_pl, sF_ai, sF_al, sG_pi, sG_pl, sG_ai, sG_al, sI_pi, sI_pl, sI_al, sI_ai1, sI_ai2, sJ_pi, sJ_pl, sJ_ai, sJ_al1, sJ_al2, Nat.reduceEqDiff, if_true, if_false, ne_eq, not_false_eq_true, ite_true, ite_false] at g1 g2 g3
  generalize hh : 30000 + sI σ 14 (sF σ 15 - 1) = h at *
  have h00 : 0 ≤ h := by lia
  have hsm : ∀ y, 0 ≤ y → y ∈ o ∨ y < 30000 → m_sm σ (md_pi (md_pi (md_ai (md_ai (md_ai (md_row (md_pi σ 15 (sF σ 15 - 1)) 10 g) 2 h.toNatClampNeg (sF σ 12)) 3 h.toNatClampNeg (sF σ 17)) 4 h.toNatClampNeg (hof 7 (fun m => sI σ 16 m &&& 255) (sF σ 17))) 12 (sF σ 12 + sF σ 17)) 13 (sF σ 13 + 1)) y := by
    intro y y0 hy
    have y2 : y ≠ h := by
      rcases hy with hy | hy
      · exact fun q => f5 (by rw [← q]; exact hy)
      · lia
    refine ⟨?_, ?_, ?_, fun k k0 k1 => ?_⟩
    · simp (disch := lia) only [sF_pi, sF_pl, sF_ai, sF_al, sG_pi, sG_pl, sG_ai, sG_al, sI_pi, sI_pl, sI_al, sI_ai1, sI_ai2, sJ_pi, sJ_pl, sJ_ai, sJ_al1, sJ_al2, Nat.reduceEqDiff, if_true, if_false, ne_eq, not_false_eq_true, ite_true, ite_false, sI_row1, sI_ai, true_and, if_neg]
    · simp (disch := lia) only [sF_pi, sF_pl, sF_ai, sF_al, sG_pi, sG_pl, sG_ai, sG_al, sI_pi, sI_pl, sI_al, sI_ai1, sI_ai2, sJ_pi, sJ_pl, sJ_ai, sJ_al1, sJ_al2, Nat.reduceEqDiff, if_true, if_false, ne_eq, not_false_eq_true, ite_true, ite_false, sI_row1, sI_ai, true_and, if_neg]
    · simp (disch := lia) only [sF_pi, sF_pl, sF_ai, sF_al, sG_pi, sG_pl, sG_ai, sG_al, sI_pi, sI_pl, sI_al, sI_ai1, sI_ai2, sJ_pi, sJ_pl, sJ_ai, sJ_al1, sJ_al2, Nat.reduceEqDiff, if_true, if_false, ne_eq, not_false_eq_true, ite_true, ite_false, sI_row1, sI_ai, true_and, if_neg]
    · simp (disch := lia) only [m_by, sF_pi, sF_pl, sF_ai, sF_al, sG_pi, sG_pl, sG_ai, sG_al, sI_pi, sI_pl, sI_al, sI_ai1, sI_ai2, sJ_pi, sJ_pl, sJ_ai, sJ_al1, sJ_al2, Nat.reduceEqDiff, if_true, if_false, ne_eq, not_false_eq_true, ite_true, ite_false, sI_row1, sI_ai, true_and, if_neg]
      rcases hy with hy | hy
      · obtain ⟨q1, q2, q3, q4, q5, q6⟩ := H5 y hy
        have q7 := (H1.2.2.2.2.2.1 y hy).1
        rw [if_neg (by lia), if_neg (by lia), sI_row2, g3 _ (by lia) (.inl (by lia))]
      · rw [if_pos hy, if_pos hy]
  refine ⟨h, _, ?_, ⟨?_, ?_, ?_, ?_, ?_⟩, f5, lo, hi, ?_, ?_, ?_, ?_, hsm, ?_⟩
  rotate_left 1
  · simp only [sF_pi, sF_pl, sF_ai, sF_al, sG_pi, sG_pl, sG_ai, sG_al, sI_pi, sI_pl, sI_al, sI_ai1, sI_ai2, sJ_pi, sJ_pl, sJ_ai, sJ_al1, sJ_al2, Nat.reduceEqDiff, if_true, if_false, ne_eq, not_false_eq_true, ite_true, ite_false, sF_row]
    have : (sI (md_pi (md_pi (md_ai (md_ai (md_ai (md_row (md_pi σ 15 (sF σ 15 - 1)) 10 g) 2 h.toNatClampNeg (sF σ 12)) 3 h.toNatClampNeg (sF σ 17)) 4 h.toNatClampNeg (hof 7 (fun m => sI σ 16 m &&& 255) (sF σ 17))) 12 (sF σ 12 + sF σ 17)) 13 (sF σ 13 + 1)) 14) = sI σ 14 := by
      funext m
      simp (disch := lia) only [sF_pi, sF_pl, sF_ai, sF_al, sG_pi, sG_pl, sG_ai, sG_al, sI_pi, sI_pl, sI_al, sI_ai1, sI_ai2, sJ_pi, sJ_pl, sJ_ai, sJ_al1, sJ_al2, Nat.reduceEqDiff, if_true, if_false, ne_eq, not_false_eq_true, ite_true, ite_false, sI_row1]
    rw [this]
    exact f6
  · simp only [sF_pi, sF_pl, sF_ai, sF_al, sG_pi, sG_pl, sG_ai, sG_al, sI_pi, sI_pl, sI_al, sI_ai1, sI_ai2, sJ_pi, sJ_pl, sJ_ai, sJ_al1, sJ_al2, Nat.reduceEqDiff, if_true, if_false, ne_eq, not_false_eq_true, ite_true, ite_false, sF_row]
    have := H1.2.2.2.2.2.2
    have q := tI_rng (sF σ 15)
    rw [tI_le] at f1
    have z : (0 : Int32).toInt = 0 := rfl
    have z2 : (12000 : Int32).toInt = 12000 := rfl
    have h1 := H1.1
    rw [tI_le] at h1
    rw [List.length_append, tI_add] <;> simp only [show (1 : Int32).toInt = 1 from rfl, List.length_cons, List.length_nil] <;> omega
  · simp only [sF_pi, sF_pl, sF_ai, sF_al, sG_pi, sG_pl, sG_ai, sG_al, sI_pi, sI_pl, sI_al, sI_ai1, sI_ai2, sJ_pi, sJ_pl, sJ_ai, sJ_al1, sJ_al2, Nat.reduceEqDiff, if_true, if_false, ne_eq, not_false_eq_true, ite_true, ite_false]; lia
  · simp only [sF_pi, sF_pl, sF_ai, sF_al, sG_pi, sG_pl, sG_ai, sG_al, sI_pi, sI_pl, sI_al, sI_ai1, sI_ai2, sJ_pi, sJ_pl, sJ_ai, sJ_al1, sJ_al2, Nat.reduceEqDiff, if_true, if_false, ne_eq, not_false_eq_true, ite_true, ite_false]; exact c2
  · intro x hx
    rcases List.mem_append.mp hx with w | w
    · have q := H5 x w
      have q0 := H1.2.2.2.2.2.1 x w
      have s := hsm x (by lia) (.inl w)
      have q2 := q.2.2.2.2.1
      refine ⟨by rw [s.1]; exact q.1, by rw [s.2.1]; exact q.2.1, by rw [s.2.1]; exact q.2.2.1, by rw [s.1]; exact q.2.2.2.1, ?_, msm_hs s q.2.1 q.2.2.2.2.2⟩
      rw [s.1, s.2.1]
      simp only [sF_pi, sF_pl, sF_ai, sF_al, sG_pi, sG_pl, sG_ai, sG_al, sI_pi, sI_pl, sI_al, sI_ai1, sI_ai2, sJ_pi, sJ_pl, sJ_ai, sJ_al1, sJ_al2, Nat.reduceEqDiff, if_true, if_false, ne_eq, not_false_eq_true, ite_true, ite_false]
      lia
    · have e : x = h := by simpa using w
      subst e
      have k2 : sI (md_pi (md_pi (md_ai (md_ai (md_ai (md_row (md_pi σ 15 (sF σ 15 - 1)) 10 g) 2 x.toNatClampNeg (sF σ 12)) 3 x.toNatClampNeg (sF σ 17)) 4 x.toNatClampNeg (hof 7 (fun m => sI σ 16 m &&& 255) (sF σ 17))) 12 (sF σ 12 + sF σ 17)) 13 (sF σ 13 + 1)) 2 x = sF σ 12 := by simp (disch := lia) only [sF_pi, sF_pl, sF_ai, sF_al, sG_pi, sG_pl, sG_ai, sG_al, sI_pi, sI_pl, sI_al, sI_ai1, sI_ai2, sJ_pi, sJ_pl, sJ_ai, sJ_al1, sJ_al2, Nat.reduceEqDiff, if_true, if_false, ne_eq, not_false_eq_true, ite_true, ite_false]
      have k3 : sI (md_pi (md_pi (md_ai (md_ai (md_ai (md_row (md_pi σ 15 (sF σ 15 - 1)) 10 g) 2 x.toNatClampNeg (sF σ 12)) 3 x.toNatClampNeg (sF σ 17)) 4 x.toNatClampNeg (hof 7 (fun m => sI σ 16 m &&& 255) (sF σ 17))) 12 (sF σ 12 + sF σ 17)) 13 (sF σ 13 + 1)) 3 x = sF σ 17 := by simp (disch := lia) only [sF_pi, sF_pl, sF_ai, sF_al, sG_pi, sG_pl, sG_ai, sG_al, sI_pi, sI_pl, sI_al, sI_ai1, sI_ai2, sJ_pi, sJ_pl, sJ_ai, sJ_al1, sJ_al2, Nat.reduceEqDiff, if_true, if_false, ne_eq, not_false_eq_true, ite_true, ite_false]
      refine ⟨by rw [k2]; exact H3, by rw [k3]; exact n0, by rw [k3]; lia, by rw [k2]; exact H4, ?_, ?_⟩
      · rw [k2, k3]
        simp only [sF_pi, sF_pl, sF_ai, sF_al, sG_pi, sG_pl, sG_ai, sG_al, sI_pi, sI_pl, sI_al, sI_ai1, sI_ai2, sJ_pi, sJ_pl, sJ_ai, sJ_al1, sJ_al2, Nat.reduceEqDiff, if_true, if_false, ne_eq, not_false_eq_true, ite_true, ite_false]
        lia
      · simp only [m_hs, m_sz, k3]
        simp (disch := lia) only [sF_pi, sF_pl, sF_ai, sF_al, sG_pi, sG_pl, sG_ai, sG_al, sI_pi, sI_pl, sI_al, sI_ai1, sI_ai2, sJ_pi, sJ_pl, sJ_ai, sJ_al1, sJ_al2, Nat.reduceEqDiff, if_true, if_false, ne_eq, not_false_eq_true, ite_true, ite_false]
        refine hof_congr n0 (fun k k0 k1 => ?_)
        simp only [m_by, k2]
        simp (disch := lia) only [sF_pi, sF_pl, sF_ai, sF_al, sG_pi, sG_pl, sG_ai, sG_al, sI_pi, sI_pl, sI_al, sI_ai1, sI_ai2, sJ_pi, sJ_pl, sJ_ai, sJ_al1, sJ_al2, Nat.reduceEqDiff, if_true, if_false, ne_eq, not_false_eq_true, ite_true, ite_false]
        rw [if_neg (by lia), sI_row2, g2 k k0 k1]
  · simp (disch := lia) only [m_sz, sF_pi, sF_pl, sF_ai, sF_al, sG_pi, sG_pl, sG_ai, sG_al, sI_pi, sI_pl, sI_al, sI_ai1, sI_ai2, sJ_pi, sJ_pl, sJ_ai, sJ_al1, sJ_al2, Nat.reduceEqDiff, if_true, if_false, ne_eq, not_false_eq_true, ite_true, ite_false]
  · intro k k0 k1
    simp (disch := lia) only [m_by, sF_pi, sF_pl, sF_ai, sF_al, sG_pi, sG_pl, sG_ai, sG_al, sI_pi, sI_pl, sI_al, sI_ai1, sI_ai2, sJ_pi, sJ_pl, sJ_ai, sJ_al1, sJ_al2, Nat.reduceEqDiff, if_true, if_false, ne_eq, not_false_eq_true, ite_true, ite_false]
    rw [if_neg (by lia), sI_row2, g2 k k0 k1]
  · simp only [sF_pi, sF_pl, sF_ai, sF_al, sG_pi, sG_pl, sG_ai, sG_al, sI_pi, sI_pl, sI_al, sI_ai1, sI_ai2, sJ_pi, sJ_pl, sJ_ai, sJ_al1, sJ_al2, Nat.reduceEqDiff, if_true, if_false, ne_eq, not_false_eq_true, ite_true, ite_false]
  · simp only [sF_pi, sF_pl, sF_ai, sF_al, sG_pi, sG_pl, sG_ai, sG_al, sI_pi, sI_pl, sI_al, sI_ai1, sI_ai2, sJ_pi, sJ_pl, sJ_ai, sJ_al1, sJ_al2, Nat.reduceEqDiff, if_true, if_false, ne_eq, not_false_eq_true, ite_true, ite_false]
  · exact mf_pi (mf_pi (mf_ai (mf_ai (mf_ai (mf_row (mf_pi mf_rfl rfl) rfl) rfl) rfl) rfl) rfl) rfl
  · simp (disch := lia) only [mm_makeString, lt, gd_in, if_pos, if_neg, ↓reduceIte, gd_z0, gd_z1, gd_tt, sF_fold, sG_fold, sI_fold, sJ_fold, sF_pi, sF_pl, sF_ai, sF_al, sG_pi, sG_pl, sG_ai, sG_al, sI_pi, sI_pl, sI_al, sI_ai1, sI_ai2, sJ_pi, sJ_pl, sJ_ai, sJ_al1, sJ_al2, Nat.reduceEqDiff, if_true, if_false, ne_eq, not_false_eq_true, ite_true, ite_false, hh]
    exact g1
