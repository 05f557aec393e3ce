/-! LAYER 2: what waits is laid together: moves -/
def tkM (k : Nat) : Bool := [163, 173, 174].contains k
def trM (k : Nat) : Bool := [165, 176].contains k
/-- values of one are moved down -/
theorem lt160_lp {N : Nat} {r9 : Int32 → Int32 → Int32 → Int32 → mS → Option mS} {σ : mS} {n b a v2 v4 v6 v : Int32} (b0 : 0 ≤ b) (b1 : b < 121) (hn : sI σ 164 b = n) (n0 : 0 ≤ n) (n1 : n ≤ 500000) (v0 : 0 ≤ v) (va : v ≤ a) (a1 : a ≤ 500000) (an : a + n ≤ 500000) (tt : ∀ k, 0 ≤ k → k < n → 0 ≤ sI σ 173 (a + k) ∧ sI σ 173 (a + k) ≤ 8) (j : Nat) (i : Int32) (i0 : 0 ≤ i) (i1 : i ≤ n) (hj : (n.toInt - i.toInt).toNat < j) : ∀ τ : mS, m_fr tkM σ τ → (∀ x, sI τ 163 x = sI σ 163 x) → (∀ k, 0 ≤ k → k < i → sI τ 173 (v + k) = sI σ 173 (a + k) ∧ sJ τ 174 (v + k) = sJ σ 174 (a + k)) → (∀ m, 0 ≤ m → (m < v ∨ v + i ≤ m) → sI τ 173 m = sI σ 173 m ∧ sJ τ 174 m = sJ σ 174 m) → ∃ υ, mm_layTogether_160 N r9 j v v2 a v4 b v6 i τ = mm_layTogether_232 N r9 (v + n) v2 a v4 b v6 υ ∧ m_fr tkM σ υ ∧ (∀ x, 0 ≤ x → sI υ 163 x = if x = b then v else sI σ 163 x) ∧ (∀ k, 0 ≤ k → k < n → sI υ 173 (v + k) = sI σ 173 (a + k) ∧ sJ υ 174 (v + k) = sJ σ 174 (a + k)) ∧ (∀ m, 0 ≤ m → (m < v ∨ v + n ≤ m) → sI υ 173 m = sI σ 173 m ∧ sJ υ 174 m = sJ σ 174 m) := by
  refine loop_up (lo := 0) (m := n) (fun j i => ∀ τ : mS, m_fr tkM σ τ → (∀ x, sI τ 163 x = sI σ 163 x) → (∀ k, 0 ≤ k → k < i → sI τ 173 (v + k) = sI σ 173 (a + k) ∧ sJ τ 174 (v + k) = sJ σ 174 (a + k)) → (∀ m, 0 ≤ m → (m < v ∨ v + i ≤ m) → sI τ 173 m = sI σ 173 m ∧ sJ τ 174 m = sJ σ 174 m) → ∃ υ, mm_layTogether_160 N r9 j v v2 a v4 b v6 i τ = mm_layTogether_232 N r9 (v + n) v2 a v4 b v6 υ ∧ m_fr tkM σ υ ∧ (∀ x, 0 ≤ x → sI υ 163 x = if x = b then v else sI σ 163 x) ∧ (∀ k, 0 ≤ k → k < n → sI υ 173 (v + k) = sI σ 173 (a + k) ∧ sJ υ 174 (v + k) = sJ σ 174 (a + k)) ∧ (∀ m, 0 ≤ m → (m < v ∨ v + n ≤ m) → sI υ 173 m = sI σ 173 m ∧ sJ υ 174 m = sJ σ 174 m)) ?_ j i i0 i1 hj
  clear hj i0 i1 i j
  intro j i i0 i1 ih τ fr h63 hw ho
  have e164 : sI τ 164 b = n := by rw [mf_I fr rfl]; exact hn
  by_cases c : n ≤ i
  · have ek : i = n := by clear tt ih hw ho; lia
    subst ek
    refine ⟨md_ai τ 163 b.toNatClampNeg v, ?_, mf_ai fr rfl, fun x x0 => ?_, fun k k0 k1 => by simp only [sF_pi, sF_pl, sF_ai, sF_al, sG_pi, sG_pl, sG_ai, sG_al, sI_pi, sI_pl, sI_al, sI_ai1, sI_ai2, sJ_pi, sJ_pl, sJ_ai, sJ_al1, sJ_al2, Nat.reduceEqDiff, if_true, if_false, ne_eq, not_false_eq_true, ite_true, ite_false]; exact hw k k0 k1, fun m m0 m1 => by simp only [sF_pi, sF_pl, sF_ai, sF_al, sG_pi, sG_pl, sG_ai, sG_al, sI_pi, sI_pl, sI_al, sI_ai1, sI_ai2, sJ_pi, sJ_pl, sJ_ai, sJ_al1, sJ_al2, Nat.reduceEqDiff, if_true, if_false, ne_eq, not_false_eq_true, ite_true, ite_false]; exact ho m m0 m1⟩
    · clear tt ih hw ho
      simp (disch := lia) only [mm_layTogether_160, lt, gd_in, if_pos, if_neg, ↓reduceIte, gd_z0, gd_z1, gd_tt, sF_fold, sG_fold, sI_fold, sJ_fold, sF_pi, sF_pl, sF_ai, sF_al, sG_pi, sG_pl, sG_ai, sG_al, sI_pi, sI_pl, sI_al, sI_ai1, sI_ai2, sJ_pi, sJ_pl, sJ_ai, sJ_al1, sJ_al2, Nat.reduceEqDiff, if_true, if_false, ne_eq, not_false_eq_true, ite_true, ite_false, e164]
    · rw [sI_ai b0 x0, h63]
      by_cases q : x = b
      · rw [if_pos ⟨rfl, q⟩, if_pos q]
      · rw [if_neg (fun y => q y.2), if_neg q]
  · have t := tt i i0 (Int32.not_le.mp c)
    have s := ho (a + i) (by clear tt ih hw ho; lia) (.inr (by clear tt ih hw ho; lia))
    have nt : vp_nar .byte (sI τ 173 (a + i)) = sI σ 173 (a + i) := by rw [s.1]; exact nar_tg t.1 t.2
    have st : mm_layTogether_160 N r9 (j + 1) v v2 a v4 b v6 i τ = mm_layTogether_160 N r9 j v v2 a v4 b v6 (i + 1) (md_al (md_ai τ 173 (v + i).toNatClampNeg (sI σ 173 (a + i))) 174 (v + i).toNatClampNeg (sJ σ 174 (a + i))) := by
      have s2 := s.2
      clear tt ih hw ho s
      simp (disch := lia) only [mm_layTogether_160, lt, gd_in, if_pos, if_neg, ↓reduceIte, gd_z0, gd_z1, gd_tt, sF_fold, sG_fold, sI_fold, sJ_fold, sF_pi, sF_pl, sF_ai, sF_al, sG_pi, sG_pl, sG_ai, sG_al, sI_pi, sI_pl, sI_al, sI_ai1, sI_ai2, sJ_pi, sJ_pl, sJ_ai, sJ_al1, sJ_al2, Nat.reduceEqDiff, if_true, if_false, ne_eq, not_false_eq_true, ite_true, ite_false, e164, nt, s2]
    rw [st]
    have vi : 0 ≤ v + i := by clear tt ih hw ho; lia
    refine ih (Int32.not_le.mp c) _ (mf_al (mf_ai fr rfl) rfl) (fun x => by simp only [sF_pi, sF_pl, sF_ai, sF_al, sG_pi, sG_pl, sG_ai, sG_al, sI_pi, sI_pl, sI_al, sI_ai1, sI_ai2, sJ_pi, sJ_pl, sJ_ai, sJ_al1, sJ_al2, Nat.reduceEqDiff, if_true, if_false, ne_eq, not_false_eq_true, ite_true, ite_false]; exact h63 x) (fun k k0 k1 => ?_) (fun m m0 m1 => ?_)
    · have vk : 0 ≤ v + k := by clear tt ih hw ho; lia
      simp only [sF_pi, sF_pl, sF_ai, sF_al, sG_pi, sG_pl, sG_ai, sG_al, sI_pi, sI_pl, sI_al, sI_ai1, sI_ai2, sJ_pi, sJ_pl, sJ_ai, sJ_al1, sJ_al2, Nat.reduceEqDiff, if_true, if_false, ne_eq, not_false_eq_true, ite_true, ite_false]
      rw [sI_ai vi vk, sJ_al vi vk]
      by_cases q : k = i
      · subst q
        rw [if_pos ⟨rfl, rfl⟩, if_pos ⟨rfl, rfl⟩]; exact ⟨rfl, rfl⟩
      · have ne : v + k ≠ v + i := fun y => q (by clear tt ih hw ho; lia)
        rw [if_neg (fun y => ne y.2), if_neg (fun y => ne y.2)]
        simp only [sF_pi, sF_pl, sF_ai, sF_al, sG_pi, sG_pl, sG_ai, sG_al, sI_pi, sI_pl, sI_al, sI_ai1, sI_ai2, sJ_pi, sJ_pl, sJ_ai, sJ_al1, sJ_al2, Nat.reduceEqDiff, if_true, if_false, ne_eq, not_false_eq_true, ite_true, ite_false]
        exact hw k k0 (by clear tt ih hw ho; lia)
    · have ne : m ≠ v + i := fun y => by
        rcases m1 with r | r
        · clear tt ih hw ho; lia
        · clear tt ih hw ho; lia
      simp only [sF_pi, sF_pl, sF_ai, sF_al, sG_pi, sG_pl, sG_ai, sG_al, sI_pi, sI_pl, sI_al, sI_ai1, sI_ai2, sJ_pi, sJ_pl, sJ_ai, sJ_al1, sJ_al2, Nat.reduceEqDiff, if_true, if_false, ne_eq, not_false_eq_true, ite_true, ite_false]
      rw [sI_ai vi m0, sJ_al vi m0, if_neg (fun y => ne y.2), if_neg (fun y => ne y.2)]
      simp only [sF_pi, sF_pl, sF_ai, sF_al, sG_pi, sG_pl, sG_ai, sG_al, sI_pi, sI_pl, sI_al, sI_ai1, sI_ai2, sJ_pi, sJ_pl, sJ_ai, sJ_al1, sJ_al2, Nat.reduceEqDiff, if_true, if_false, ne_eq, not_false_eq_true, ite_true, ite_false]
      exact ho m m0 (m1.imp id (fun r => by clear tt ih hw ho; lia))
/-- rows of one are moved down -/
theorem lt249_lp {N : Nat} {r9 : Int32 → Int32 → Int32 → Int32 → mS → Option mS} {σ : mS} {n b a v1 v3 v5 v s : Int32} (b0 : 0 ≤ b) (b1 : b < 121) (hs : sI σ 166 b = s) (s0 : 0 ≤ s) (s1 : s ≤ 500) (hn : 10 * s = n) (v0 : 0 ≤ v) (va : v ≤ a) (a1 : a ≤ 5000) (an : a + n ≤ 5000) (j : Nat) (i : Int32) (i0 : 0 ≤ i) (i1 : i ≤ n) (hj : (n.toInt - i.toInt).toNat < j) : ∀ τ : mS, m_fr trM σ τ → (∀ x, sI τ 165 x = sI σ 165 x) → (∀ k, 0 ≤ k → k < i → sI τ 176 (v + k) = sI σ 176 (a + k)) → (∀ m, 0 ≤ m → (m < v ∨ v + i ≤ m) → sI τ 176 m = sI σ 176 m) → ∃ υ, mm_layTogether_249 N r9 j v1 v v3 a v5 b i τ = mm_layTogether_310 N r9 v1 (v + n) v3 a v5 b υ ∧ m_fr trM σ υ ∧ (∀ x, 0 ≤ x → sI υ 165 x = if x = b then v else sI σ 165 x) ∧ (∀ k, 0 ≤ k → k < n → sI υ 176 (v + k) = sI σ 176 (a + k)) ∧ (∀ m, 0 ≤ m → (m < v ∨ v + n ≤ m) → sI υ 176 m = sI σ 176 m) := by
  refine loop_up (lo := 0) (m := n) (fun j i => ∀ τ : mS, m_fr trM σ τ → (∀ x, sI τ 165 x = sI σ 165 x) → (∀ k, 0 ≤ k → k < i → sI τ 176 (v + k) = sI σ 176 (a + k)) → (∀ m, 0 ≤ m → (m < v ∨ v + i ≤ m) → sI τ 176 m = sI σ 176 m) → ∃ υ, mm_layTogether_249 N r9 j v1 v v3 a v5 b i τ = mm_layTogether_310 N r9 v1 (v + n) v3 a v5 b υ ∧ m_fr trM σ υ ∧ (∀ x, 0 ≤ x → sI υ 165 x = if x = b then v else sI σ 165 x) ∧ (∀ k, 0 ≤ k → k < n → sI υ 176 (v + k) = sI σ 176 (a + k)) ∧ (∀ m, 0 ≤ m → (m < v ∨ v + n ≤ m) → sI υ 176 m = sI σ 176 m)) ?_ j i i0 i1 hj
  clear hj i0 i1 i j
  intro j i i0 i1 ih τ fr h63 hw ho
  have e166 : sI τ 166 b = s := by rw [mf_I fr rfl]; exact hs
  by_cases c : n ≤ i
  · have ek : i = n := by clear ih hw ho; lia
    subst ek
    refine ⟨md_ai τ 165 b.toNatClampNeg v, ?_, mf_ai fr rfl, fun x x0 => ?_, fun k k0 k1 => by simp only [sF_pi, sF_pl, sF_ai, sF_al, sG_pi, sG_pl, sG_ai, sG_al, sI_pi, sI_pl, sI_al, sI_ai1, sI_ai2, sJ_pi, sJ_pl, sJ_ai, sJ_al1, sJ_al2, Nat.reduceEqDiff, if_true, if_false, ne_eq, not_false_eq_true, ite_true, ite_false]; exact hw k k0 k1, fun m m0 m1 => by simp only [sF_pi, sF_pl, sF_ai, sF_al, sG_pi, sG_pl, sG_ai, sG_al, sI_pi, sI_pl, sI_al, sI_ai1, sI_ai2, sJ_pi, sJ_pl, sJ_ai, sJ_al1, sJ_al2, Nat.reduceEqDiff, if_true, if_false, ne_eq, not_false_eq_true, ite_true, ite_false]; exact ho m m0 m1⟩
    · clear ih hw ho
      simp (disch := lia) only [mm_layTogether_249, lt, gd_in, if_pos, if_neg, ↓reduceIte, gd_z0, gd_z1, gd_tt, sF_fold, sG_fold, sI_fold, sJ_fold, sF_pi, sF_pl, sF_ai, sF_al, sG_pi, sG_pl, sG_ai, sG_al, sI_pi, sI_pl, sI_al, sI_ai1, sI_ai2, sJ_pi, sJ_pl, sJ_ai, sJ_al1, sJ_al2, Nat.reduceEqDiff, if_true, if_false, ne_eq, not_false_eq_true, ite_true, ite_false, e166, hn]
    · rw [sI_ai b0 x0, h63]
      by_cases q : x = b
      · rw [if_pos ⟨rfl, q⟩, if_pos q]
      · rw [if_neg (fun y => q y.2), if_neg q]
  · have s' := ho (a + i) (by clear ih hw ho; lia) (.inr (by clear ih hw ho; lia))
    have st : mm_layTogether_249 N r9 (j + 1) v1 v v3 a v5 b i τ = mm_layTogether_249 N r9 j v1 v v3 a v5 b (i + 1) (md_ai τ 176 (v + i).toNatClampNeg (sI σ 176 (a + i))) := by
      clear ih hw ho
      simp (disch := lia) only [mm_layTogether_249, lt, gd_in, if_pos, if_neg, ↓reduceIte, gd_z0, gd_z1, gd_tt, sF_fold, sG_fold, sI_fold, sJ_fold, sF_pi, sF_pl, sF_ai, sF_al, sG_pi, sG_pl, sG_ai, sG_al, sI_pi, sI_pl, sI_al, sI_ai1, sI_ai2, sJ_pi, sJ_pl, sJ_ai, sJ_al1, sJ_al2, Nat.reduceEqDiff, if_true, if_false, ne_eq, not_false_eq_true, ite_true, ite_false, e166, hn, s']
    rw [st]
    have vi : 0 ≤ v + i := by clear ih hw ho; lia
    refine ih (Int32.not_le.mp c) _ (mf_ai fr rfl) (fun x => by simp only [sF_pi, sF_pl, sF_ai, sF_al, sG_pi, sG_pl, sG_ai, sG_al, sI_pi, sI_pl, sI_al, sI_ai1, sI_ai2, sJ_pi, sJ_pl, sJ_ai, sJ_al1, sJ_al2, Nat.reduceEqDiff, if_true, if_false, ne_eq, not_false_eq_true, ite_true, ite_false]; exact h63 x) (fun k k0 k1 => ?_) (fun m m0 m1 => ?_)
    · have vk : 0 ≤ v + k := by clear ih hw ho; lia
      rw [sI_ai vi vk]
      by_cases q : k = i
      · subst q
        rw [if_pos ⟨rfl, rfl⟩]
      · have ne : v + k ≠ v + i := fun y => q (by clear ih hw ho; lia)
        rw [if_neg (fun y => ne y.2)]
        exact hw k k0 (by clear ih hw ho; lia)
    · have ne : m ≠ v + i := fun y => by
        rcases m1 with r | r
        · clear ih hw ho; lia
        · clear ih hw ho; lia
      rw [sI_ai vi m0, if_neg (fun y => ne y.2)]
      exact ho m m0 (m1.imp id (fun r => by clear ih hw ho; lia))
