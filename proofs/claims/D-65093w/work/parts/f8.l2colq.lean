/-! LAYER 2: the system's collector: rows in order -/
/-- K is kept, R is to be gone through from v on, f is free -/
def OLI (nx : Int32 → Int32) (a b c n M : Int32) (K R f : List Int32) (v : Int32) : Prop := seg nx a K (-1) ∧ b = K.getLastD (-1) ∧ seg nx c f (-1) ∧ seg nx v R (-1) ∧ (K ++ R ++ f).Nodup ∧ (∀ x, x ∈ K ++ R ++ f → 0 ≤ x ∧ x < M) ∧ (K ++ R ++ f).length = M.toNatClampNeg ∧ n.toInt = K.length + R.length
theorem OLI_0 {nx : Int32 → Int32} {a b c n M : Int32} {o f : List Int32} (H : OL nx a b c n M o f) : OLI nx (-1) (-1) c n M [] o f a := by
  obtain ⟨h1, h2, h3, h4, h5, h6, h7⟩ := H
  exact ⟨rfl, rfl, h2, h1, h4, h5, h6, by rw [h7]; simp⟩
theorem OLI_e {nx : Int32 → Int32} {a b c n M v : Int32} {K f : List Int32} (H : OLI nx a b c n M K [] f v) : v = -1 ∧ OL nx a b c n M K f := by
  obtain ⟨h1, h2, h3, h4, h5, h6, h7, h8⟩ := H
  rw [List.append_nil] at h5 h6 h7
  exact ⟨h4, h1, h3, h2, h5, h6, h7, by rw [h8]; simp⟩
theorem OLI_h {nx : Int32 → Int32} {a b c n M v h : Int32} {K R f : List Int32} (H : OLI nx a b c n M K (h :: R) f v) : v = h ∧ (0 ≤ h ∧ h < M) ∧ h ∉ K ∧ h ∉ R ∧ h ∉ f ∧ (b = -1 ∨ b ∈ K ∧ 0 ≤ b ∧ b < M ∧ b ≠ h ∧ b ∉ R ∧ b ∉ f) ∧ (b = -1 ↔ K = []) := by
  obtain ⟨h1, h2, h3, h4, h5, h6, h7, h8⟩ := H
  obtain ⟨n1, n2, n3⟩ := List.nodup_append.mp h5
  obtain ⟨m1, m2, m3⟩ := List.nodup_append.mp n1
  have hm : h ∈ K ++ h :: R := List.mem_append.mpr (.inr List.mem_cons_self)
  refine ⟨h4.1, h6 h (List.mem_append.mpr (.inl hm)), fun q => m3 h q h List.mem_cons_self rfl, (List.nodup_cons.mp m2).1, fun q => n3 h hm h q rfl, ?_, ?_⟩
  · by_cases q : K = []
    · exact .inl (by rw [h2, q]; rfl)
    · have m := lastD_m q
      rw [← h2] at m
      have r := h6 b (List.mem_append.mpr (.inl (List.mem_append.mpr (.inl m))))
      exact .inr ⟨m, r.1, r.2, fun e => m3 b m h List.mem_cons_self e, fun e => m3 b m b (List.mem_cons_of_mem _ e) rfl, fun e => n3 b (List.mem_append.mpr (.inl m)) b e rfl⟩
  · refine ⟨fun q => ?_, fun q => by rw [h2, q]; rfl⟩
    by_cases w : K = []
    · exact w
    · have m := lastD_m w
      rw [← h2, q] at m
      exact absurd (h6 (-1) (List.mem_append.mpr (.inl (List.mem_append.mpr (.inl m))))).1 (by decide)
theorem OLI_f {nx ny : Int32 → Int32} {a b c n M v h : Int32} {K R f : List Int32} (H : OLI nx a b c n M K (h :: R) f v) (hM : M ≤ 32768) (y1 : ny h = c) (y2 : ∀ x, 0 ≤ x → x ≠ h → ny x = nx x) : OLI ny a b h (n - 1) M K R (h :: f) (nx h) := by
  obtain ⟨q1, q2, q3, q4, q5, q6, q7⟩ := OLI_h H
  obtain ⟨h1, h2, h3, h4, h5, h6, h7, h8⟩ := H
  have nn : ∀ x, x ∈ K ++ h :: R ++ f → 0 ≤ x := fun x hx => (h6 x hx).1
  have pm : (K ++ R ++ h :: f).Perm (K ++ h :: R ++ f) := by
    rw [List.append_assoc, List.append_assoc]
    refine List.Perm.append_left K ?_
    rw [List.cons_append]
    exact List.perm_middle
  have mI := tI_le.mp hM
  rw [show (32768 : Int32).toInt = 32768 from rfl] at mI
  have ln := h7
  rw [tI_cl] at ln
  simp only [List.length_append, List.length_cons] at ln h8
  refine ⟨seg_congr h1 (fun x hx => y2 x (nn x (by simp [hx])) (fun e => q3 (by rw [← e]; exact hx))), h2, ⟨rfl, ?_⟩, seg_congr h4.2 (fun x hx => y2 x (nn x (by simp [hx])) (fun e => q4 (by rw [← e]; exact hx))), pm.nodup_iff.mpr h5, fun x hx => h6 x (pm.mem_iff.mp hx), by rw [pm.length_eq]; exact h7, ?_⟩
  · rw [y1]
    exact seg_congr h3 (fun x hx => y2 x (nn x (by simp [hx])) (fun e => q5 (by rw [← e]; exact hx)))
  · have one : (1 : Int32).toInt = 1 := rfl
    rw [tI_sub (by rw [one]; omega) (by rw [one]; omega), one, h8]
    push_cast
    omega
theorem OLI_k {nx ny : Int32 → Int32} {a a' b c n M v h : Int32} {K R f : List Int32} (H : OLI nx a b c n M K (h :: R) f v) (y1 : ny h = -1) (y2 : b = -1 → a' = h ∧ ∀ x, 0 ≤ x → x ≠ h → ny x = nx x) (y3 : b ≠ -1 → a' = a ∧ ny b = h ∧ ∀ x, 0 ≤ x → x ≠ h → x ≠ b → ny x = nx x) : OLI ny a' h c n M (K ++ [h]) R f (nx h) := by
  obtain ⟨q1, q2, q3, q4, q5, q6, q7⟩ := OLI_h H
  obtain ⟨h1, h2, h3, h4, h5, h6, h7, h8⟩ := H
  have nn : ∀ x, x ∈ K ++ h :: R ++ f → 0 ≤ x := fun x hx => (h6 x hx).1
  have e : K ++ [h] ++ R ++ f = K ++ h :: R ++ f := by simp
  have hl : h = (K ++ [h]).getLastD (-1) := by simp
  rw [← e] at h5 h6 h7
  have oth : ∀ x, 0 ≤ x → x ∈ R ∨ x ∈ f → ny x = nx x := fun x x0 hx => by
    have ne : x ≠ h := fun w => hx.elim (fun u => q4 (by rw [← w]; exact u)) (fun u => q5 (by rw [← w]; exact u))
    by_cases c1 : b = -1
    · exact (y2 c1).2 x x0 ne
    · rcases q6 with w | ⟨w1, w2, w3, w4, w5, w6⟩
      · exact absurd w c1
      · exact (y3 c1).2.2 x x0 ne (fun w => hx.elim (fun u => w5 (by rw [← w]; exact u)) (fun u => w6 (by rw [← w]; exact u)))
  refine ⟨?_, hl, seg_congr h3 (fun x hx => oth x (nn x (by simp [hx])) (.inr hx)), seg_congr h4.2 (fun x hx => oth x (nn x (by simp [hx])) (.inl hx)), h5, h6, h7, ?_⟩
  · by_cases c1 : b = -1
    · have k0 := q7.mp c1
      subst k0
      rw [(y2 c1).1]
      exact ⟨rfl, y1⟩
    · have kn : K ≠ [] := fun w => c1 (q7.mpr w)
      rcases q6 with w | ⟨w1, w2, w3, w4, w5, w6⟩
      · exact absurd w c1
      obtain ⟨z1, z2, z3⟩ := y3 c1
      rw [z1]
      have ndK : K.Nodup := (List.nodup_append.mp (List.nodup_append.mp (List.nodup_append.mp h5).1).1).1
      exact seg_ap1 (seg_ret h1 kn h2.symm ndK z2 (fun x hx ne => z3 x (nn x (by simp [hx])) (fun w => q3 (by rw [← w]; exact hx)) ne)) y1
  · rw [h8]
    simp only [List.length_append, List.length_cons, List.length_nil]
    push_cast
    omega
/-- strings -/
def swF (k : Nat) : Bool := [128, 131, 136, 137, 138, 139, 140, 141, 142].contains k
def SWI (σ τ : mS) (K R f : List Int32) (v A : Int32) : Prop := m_fr swF σ τ ∧ OLI (sI τ 136) (sF τ 137) (sF τ 138) (sF τ 139) (sF τ 140) 12000 K R f v ∧ lay (sI τ 128) (sI σ 129) 300000 0 K (sF τ 141) ∧ (∃ E, lay (sI σ 128) (sI σ 129) 300000 A R E) ∧ sF τ 141 ≤ A ∧ A ≤ 300000 ∧ (∀ x, x ∈ R → sI τ 128 x = sI σ 128 x ∧ sI τ 142 x = sI σ 142 x) ∧ (∀ m, A ≤ m → m < 300000 → sI τ 131 m = sI σ 131 m) ∧ (∀ x, x ∈ K → ∀ k, 0 ≤ k → k < sI σ 129 x → sI τ 131 (sI τ 128 x + k) = sI σ 131 (sI σ 128 x + k)) ∧ (∀ x, 0 ≤ x → x < 12000 → x ∉ R → sI τ 142 x = 0) ∧ (∀ x, 12000 ≤ x → sI τ 128 x = sI σ 128 x) ∧ (∀ m, ∃ m', τ.2.2.1 131 m = σ.2.2.1 131 m')
