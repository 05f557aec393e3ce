/-! LAYER 2: the reference's strings that are always there: intern, forgetStrings -/
def m_ba (v : Nat) (L : Int32) : Prop := bB v = true ∧ md_ln v < 2147483648 ∧ (OfNat.ofNat (md_ln v) : Int32) = L
theorem mba_0 : m_ba 0 8000 := ⟨by decide +kernel, by decide +kernel, by decide +kernel⟩
theorem mba_16 : m_ba 16 4400 := ⟨by decide +kernel, by decide +kernel, by decide +kernel⟩
theorem gd_mba {α : Type} {v : Nat} {L i : Int32} {k : Option α} (h : m_ba v L) (h0 : 0 ≤ i) (h1 : i < L) : gd (inB i (md_ln v)) k = k := gd_in h.2.1 h0 (by rw [h.2.2]; exact h1)
theorem and_8191 {a : Int32} : 0 ≤ a &&& 8191 ∧ a &&& 8191 < 8192 := by
  have h : (a &&& 8191).toInt = ((a.toBitVec.toNat % 8192 : Nat) : Int) := by
    rw [← Int32.toInt_toBitVec, Int32.toBitVec_and]
    have : (a.toBitVec &&& (8191 : Int32).toBitVec).toNat = a.toBitVec.toNat % 8192 := by
      rw [BitVec.toNat_and]
      exact Nat.and_two_pow_sub_one_eq_mod _ 13
    rw [BitVec.toInt_eq_toNat_of_lt (by rw [this]; omega), this]
  rw [tI_le, tI_lt, h]
  have h1 : (0 : Int32).toInt = 0 := rfl
  have h2 : (8192 : Int32).toInt = 8192 := rfl
  omega
/-- A strings, in piles bk, the latest first -/
def TM (σ : mS) (bk : Int32 → List Int32) : Prop := 0 ≤ sF σ 5 ∧ sF σ 5 ≤ 30000 ∧ 0 ≤ sF σ 6 ∧ sF σ 6 ≤ 72000 ∧ (∀ b, 0 ≤ b → b < 8192 → seg (fun s => sI σ 8 s - 1) (sI σ 9 b - 1) (bk b) (-1) ∧ (bk b).Pairwise (fun x y => y < x) ∧ ∀ s, s ∈ bk b ↔ 0 ≤ s ∧ s < sF σ 5 ∧ sI σ 4 s &&& 8191 = b) ∧ (∀ s, 0 ≤ s → s < sF σ 5 → 0 ≤ sI σ 2 s ∧ 0 ≤ sI σ 3 s ∧ sI σ 2 s ≤ 72000 ∧ sI σ 3 s ≤ 72000 ∧ sI σ 2 s + sI σ 3 s ≤ sF σ 6 ∧ m_hs σ s) ∧ (∀ m, 0 ≤ m → m < sF σ 6 → isB (sI σ 7 m))
theorem TM_sv {σ : mS} {bk : Int32 → List Int32} (H : TM σ bk) {s : Int32} (h0 : 0 ≤ s) (h1 : s < sF σ 5) : m_sv σ s ∧ m_hs σ s ∧ s < 30000 := by
  obtain ⟨t1, t2, t3, t4, t5, t6, _⟩ := H
  obtain ⟨q1, q2, q3, q4, q5, q6⟩ := t6 s h0 h1
  clear t5 t6
  exact ⟨⟨by lia, by lia, q1, q2, by lia, by lia, by lia, fun _ => by lia⟩, q6, by lia⟩
def tm_eq (σ : mS) (v : Nat) (p n g : Int32) : Prop := m_sz σ g = n ∧ ∀ k, 0 ≤ k → k < n → m_by σ g k = sI σ v (p + k) &&& 255
/-- what intern does -/
def in_post (σ τ : mS) (v : Nat) (p n s : Int32) : Prop := (∃ bk, TM τ bk) ∧ 0 ≤ s ∧ s < sF τ 5 ∧ m_sz τ s = n ∧ (∀ k, 0 ≤ k → k < n → m_by τ s k = sI σ v (p + k) &&& 255) ∧ (∀ g, 0 ≤ g → g < sF σ 5 ∨ 30000 ≤ g → m_sm σ τ g) ∧ (τ = σ ∨ s = sF σ 5 ∧ sF τ 5 = sF σ 5 + 1 ∧ sF τ 6 = sF σ 6 + n) ∧ (∀ g, 0 ≤ g → sF σ 5 < g → sI τ 2 g = sI σ 2 g ∧ sI τ 3 g = sI σ 3 g ∧ sI τ 4 g = sI σ 4 g) ∧ m_fr (fun k => [2, 3, 4, 5, 6, 7, 8, 9].contains k) σ τ
theorem int_l1 {N : Nat} {σ : mS} {p n L : Int32} {v : Nat} (hv : m_ba v L) (p0 : 0 ≤ p) (pn : p ≤ p + n) (pL : p + n ≤ L) : ∀ (k : Nat) (i : Int32), 0 ≤ i → i ≤ n → (n.toInt - i.toInt).toNat < k → mm_intern_7 N k v p n (hof 7 (fun m => sI σ v (p + m) &&& 255) i) i σ = mm_intern_51 N N v p n (hof 7 (fun m => sI σ v (p + m) &&& 255) n) (hof 7 (fun m => sI σ v (p + m) &&& 255) n &&& 8191) (sI σ 9 (hof 7 (fun m => sI σ v (p + m) &&& 255) n &&& 8191) - 1) σ := by
  refine loop_up _ (fun k i i0 i1 ih => ?_)
  rw [mm_intern_7]
  by_cases c : i < n
  · simp (disch := lia) only [lt, gd_in, if_pos, if_neg, ↓reduceIte, gd_z0, gd_z1, gd_tt, sF_fold, sG_fold, sI_fold, sJ_fold, hv.1, gd_mba hv, mm_mix, bd]
    have e := hof_s (s := 7) (f := fun m => sI σ v (p + m) &&& 255) i0 (by lia)
    rw [← e]
    exact ih c
  · have e : i = n := by lia
    subst e
    obtain ⟨r1, r2⟩ := @and_8191 (hof 7 (fun m => sI σ v (p + m) &&& 255) i)
    simp (disch := lia) only [lt, gd_in, if_pos, if_neg, ↓reduceIte, gd_z0, gd_z1, gd_tt, sF_fold, sG_fold, sI_fold, sJ_fold]
/-- the comparison with one string goes on with the next one or ends with it -/
theorem int_cmp {N : Nat} {σ : mS} {r51 : Nat → Int32 → Int32 → Int32 → Int32 → Int32 → mS → Option (Int32 × mS)} {s p n L h b : Int32} {v : Nat} (hv : m_ba v L) (p0 : 0 ≤ p) (pn : p ≤ p + n) (pL : p + n ≤ L) (s0 : 0 ≤ s) (s1 : s < 30000) (q1 : 0 ≤ sI σ 2 s) (q3 : sI σ 2 s ≤ 72000) (q4 : sI σ 3 s ≤ 72000) (q5 : sI σ 2 s + sI σ 3 s ≤ 72000) (e : sI σ 3 s = n) : ∀ (k : Nat) (i : Int32), 0 ≤ i → i ≤ n → (n.toInt - i.toInt).toNat < k → ((∀ k, i ≤ k → k < n → sI σ 7 (sI σ 2 s + k) = sI σ v (p + k)) ∧ mm_intern_89 N r51 k v p n h b s 1 i σ = some (s, σ) ∨ ¬ (∀ k, i ≤ k → k < n → sI σ 7 (sI σ 2 s + k) = sI σ v (p + k)) ∧ mm_intern_89 N r51 k v p n h b s 1 i σ = r51 v p n h b (sI σ 8 s - 1) σ) ∧ mm_intern_89 N r51 k v p n h b s 0 i σ = r51 v p n h b (sI σ 8 s - 1) σ := by
  refine loop_up _ (fun k i i0 i1 ih => ?_)
  rw [mm_intern_89, mm_intern_89]
  by_cases c : i < n
  · refine ⟨?_, by simp (disch := lia) only [mm_intern_137, lt, gd_in, if_pos, if_neg, ↓reduceIte, gd_z0, gd_z1, gd_tt, sF_fold, sG_fold, sI_fold, sJ_fold]⟩
    simp (disch := lia) only [mm_intern_129, lt, gd_in, if_pos, if_neg, ↓reduceIte, gd_z0, gd_z1, gd_tt, sF_fold, sG_fold, sI_fold, sJ_fold, hv.1, gd_mba hv]
    by_cases d : sI σ 7 (sI σ 2 s + i) = sI σ v (p + i)
    · rw [if_pos d]
      have : (∀ k, i + 1 ≤ k → k < n → sI σ 7 (sI σ 2 s + k) = sI σ v (p + k)) ↔ (∀ k, i ≤ k → k < n → sI σ 7 (sI σ 2 s + k) = sI σ v (p + k)) := by
        refine ⟨fun q k hk hk' => ?_, fun q k hk => q k (by lia)⟩
        by_cases e : k = i
        · rw [e]; exact d
        · exact q k (by lia) hk'
      have w := (ih c).1
      rw [this] at w
      exact w
    · rw [if_neg d]
      exact .inr ⟨fun q => d (q i (by lia) c), (ih c).2⟩
  · refine ⟨.inl ⟨fun k hk hk' => by lia, ?_⟩, by simp (disch := lia) only [mm_intern_137, lt, gd_in, if_pos, if_neg, ↓reduceIte, gd_z0, gd_z1, gd_tt, sF_fold, sG_fold, sI_fold, sJ_fold]⟩
    simp (disch := lia) only [mm_intern_137, lt, gd_in, if_pos, if_neg, ↓reduceIte, gd_z0, gd_z1, gd_tt, sF_fold, sG_fold, sI_fold, sJ_fold]
theorem int_cp {N : Nat} {σ : mS} {v : Nat} {p n b s L U : Int32} (hv : m_ba v L) (hne : v ≠ 7) (p0 : 0 ≤ p) (pn : p ≤ p + n) (pL : p + n ≤ L) (hU : sF σ 6 = U) (U0 : 0 ≤ U) (U1 : U ≤ 72000) (Un : U + n ≤ 72000) (n1 : n ≤ 72000) (b0 : 0 ≤ b) (b1 : b < 8192) (s0 : 0 ≤ s) (s1 : s < 30000) : ∀ (k : Nat) (i : Int32), 0 ≤ i → i ≤ n → (n.toInt - i.toInt).toNat < k → ∀ g : Nat → Int32, (∀ m : Int32, 0 ≤ m → m < i → g (U + m).toNatClampNeg = vp_nar .byte (sI σ v (p + m))) → (∀ m : Int32, 0 ≤ m → m < U ∨ U + i ≤ m → g m.toNatClampNeg = sI σ 7 m) → ∃ g' : Nat → Int32, mm_intern_206 N k v p n b s i (md_row σ 7 g) = some (s, md_ai (md_ai (md_pi (md_row σ 7 g') 6 (U + n)) 8 s.toNatClampNeg (sI σ 9 b)) 9 b.toNatClampNeg (s + 1)) ∧ (∀ m : Int32, 0 ≤ m → m < n → g' (U + m).toNatClampNeg = vp_nar .byte (sI σ v (p + m))) ∧ (∀ m : Int32, 0 ≤ m → m < U ∨ U + n ≤ m → g' m.toNatClampNeg = sI σ 7 m) := by
  refine loop_up _ (fun k i i0 i1 ih g g1 g2 => ?_)
  rw [mm_intern_206]
  by_cases c : i < n
  · simp (disch := lia) only [lt, gd_in, if_pos, if_neg, ↓reduceIte, gd_z0, gd_z1, gd_tt, sF_fold, sG_fold, sI_fold, sJ_fold, hv.1, gd_mba hv, sF_row, sI_row1, hU, row_ai]
    refine ih c _ (fun m m0 m1 => ?_) (fun m m0 m1 => ?_)
    · rw [upd_cl (by lia) (by lia)]
      by_cases e : m = i
      · subst e; rw [if_pos rfl]
      · rw [if_neg (by lia)]; exact g1 m m0 (by lia)
    · rw [upd_cl (by lia) (by lia), if_neg (by lia)]; exact g2 m m0 (by lia)
  · have e : i = n := by lia
    subst e
    refine ⟨g, ?_, g1, g2⟩
    simp (disch := lia) only [lt, gd_in, if_pos, if_neg, ↓reduceIte, gd_z0, gd_z1, gd_tt, sF_fold, sG_fold, sI_fold, sJ_fold, sF_pi, sF_pl, sF_ai, sF_al, sG_pi, sG_pl, sG_ai, sG_al, sI_pi, sI_pl, sI_al, sI_ai1, sI_ai2, sJ_pi, sJ_pl, sJ_ai, sJ_al1, sJ_al2, Nat.reduceEqDiff, if_true, if_false, ne_eq, not_false_eq_true, ite_true, ite_false, sF_row, hU, sI_row1]
theorem int_pst {σ τ : mS} {bk : Int32 → List Int32} {p n A U b Hh : Int32} {v : Nat} (H : TM σ bk) (hA : sF σ 5 = A) (hU : sF σ 6 = U) (n0 : 0 ≤ n) (cA : A < 30000) (cU : U + n ≤ 72000) (cn : n ≤ 72000) (hH : hof 7 (fun m => sI σ v (p + m) &&& 255) n = Hh) (hb : Hh &&& 8191 = b)
    (f5 : sF τ 5 = A + 1) (f6 : sF τ 6 = U + n) (a2 : ∀ m, 0 ≤ m → sI τ 2 m = if m = A then U else sI σ 2 m) (a3 : ∀ m, 0 ≤ m → sI τ 3 m = if m = A then n else sI σ 3 m) (a4 : ∀ m, 0 ≤ m → sI τ 4 m = if m = A then Hh else sI σ 4 m) (a8 : ∀ m, 0 ≤ m → sI τ 8 m = if m = A then sI σ 9 b else sI σ 8 m) (a9 : ∀ m, 0 ≤ m → sI τ 9 m = if m = b then A + 1 else sI σ 9 m) (c7 : ∀ k, 0 ≤ k → k < n → sI τ 7 (U + k) = vp_nar .byte (sI σ v (p + k))) (b7 : ∀ m, 0 ≤ m → m < U → sI τ 7 m = sI σ 7 m) (a10 : ∀ m, sI τ 10 m = sI σ 10 m) (fr : m_fr (fun k => [2, 3, 4, 5, 6, 7, 8, 9].contains k) σ τ) : in_post σ τ v p n A := by
  have t1 : 0 ≤ A := by rw [← hA]; exact H.1
  have t3 : 0 ≤ U := by rw [← hU]; exact H.2.2.1
  have t4 : U ≤ 72000 := by rw [← hU]; exact H.2.2.2.1
  obtain ⟨r1, r2⟩ := @and_8191 Hh
  rw [hb] at r1 r2
  have t6 : ∀ s, 0 ≤ s → s < A → 0 ≤ sI σ 2 s ∧ 0 ≤ sI σ 3 s ∧ sI σ 2 s ≤ 72000 ∧ sI σ 3 s ≤ 72000 ∧ sI σ 2 s + sI σ 3 s ≤ U ∧ m_hs σ s := by rw [← hA, ← hU]; exact H.2.2.2.2.2.1
  have t5 := H.2.2.2.2.1
  rw [hA] at t5
  have t7 := H.2.2.2.2.2.2
  rw [hU] at t7
  have b2 : ∀ m, 0 ≤ m → m ≠ A → sI τ 2 m = sI σ 2 m := fun m m0 c => by rw [a2 m m0, if_neg c]
  have b3 : ∀ m, 0 ≤ m → m ≠ A → sI τ 3 m = sI σ 3 m := fun m m0 c => by rw [a3 m m0, if_neg c]
  have b4 : ∀ m, 0 ≤ m → m ≠ A → sI τ 4 m = sI σ 4 m := fun m m0 c => by rw [a4 m m0, if_neg c]
  have c2 : sI τ 2 A = U := by rw [a2 A t1, if_pos rfl]
  have c3 : sI τ 3 A = n := by rw [a3 A t1, if_pos rfl]
  have c4 : sI τ 4 A = Hh := by rw [a4 A t1, if_pos rfl]
  have hsm : ∀ g, 0 ≤ g → g < A ∨ 30000 ≤ g → m_sm σ τ g := by
    intro g g0 g1
    have gA : g ≠ A := by lia
    refine ⟨b2 g g0 gA, b3 g g0 gA, b4 g g0 gA, fun k k0 k1 => ?_⟩
    simp only [m_by]
    rw [b2 g g0 gA]
    by_cases c : g < 30000
    · obtain ⟨q1, q2, q3, q4, q5, q6⟩ := t6 g g0 (by lia)
      rw [if_pos c, if_pos c, b7 _ (by lia) (by lia)]
    · rw [if_neg c, if_neg c, a10]
  have szA : m_sz τ A = n := c3
  have byA : ∀ k, 0 ≤ k → k < n → m_by τ A k = sI σ v (p + k) &&& 255 := by
    intro k k0 k1
    simp only [m_by]
    rw [if_pos cA, c2, c7 k k0 k1, b_mask]
  refine ⟨⟨fun x => if x = b then A :: bk b else bk x, ?_⟩, t1, by rw [f5]; lia, szA, byA, by rw [hA]; exact hsm, .inr ⟨hA.symm, by rw [f5, hA], by rw [f6, hU]⟩, fun g g0 g1 => ⟨b2 g g0 (by lia), b3 g g0 (by lia), b4 g g0 (by lia)⟩, fr⟩
  simp only [TM]
  rw [f5, f6]
  refine ⟨by lia, by lia, by lia, cU, fun x x0 x1 => ?_, fun s s0 s1 => ?_, fun m m0 m1 => ?_⟩
  · obtain ⟨u1, u2, u3⟩ := t5 x x0 x1
    have notA : ∀ s, s ∈ bk x → 0 ≤ s ∧ s ≠ A := fun s hs => by have := (u3 s).mp hs; exact ⟨this.1, by have := this.2.1; lia⟩
    have sc : seg (fun s => sI τ 8 s - 1) (sI σ 9 x - 1) (bk x) (-1) := seg_congr u1 (fun s hs => by
      obtain ⟨w1, w2⟩ := notA s hs
      show sI τ 8 s - 1 = sI σ 8 s - 1
      rw [a8 s w1, if_neg w2])
    by_cases c : x = b
    · subst c
      rw [a9 x x0, if_pos rfl, if_pos rfl]
      refine ⟨⟨by lia, ?_⟩, ?_, fun s => ?_⟩
      · show seg _ (sI τ 8 A - 1) _ _
        rw [a8 A t1, if_pos rfl]
        exact sc
      · refine List.pairwise_cons.mpr ⟨fun s hs => ?_, u2⟩
        exact ((u3 s).mp hs).2.1
      · rw [List.mem_cons, u3]
        constructor
        · rintro (w | ⟨w1, w2, w3⟩)
          · subst w; exact ⟨t1, by lia, by rw [c4]; exact hb⟩
          · exact ⟨w1, by lia, by rw [b4 s w1 (by lia)]; exact w3⟩
        · rintro ⟨w1, w2, w3⟩
          by_cases d : s = A
          · exact .inl d
          · rw [b4 s w1 d] at w3; exact .inr ⟨w1, by lia, w3⟩
    · rw [a9 x x0, if_neg c, if_neg c]
      refine ⟨sc, u2, fun s => ?_⟩
      rw [u3]
      constructor
      · rintro ⟨w1, w2, w3⟩
        exact ⟨w1, by lia, by rw [b4 s w1 (by lia)]; exact w3⟩
      · rintro ⟨w1, w2, w3⟩
        by_cases d : s = A
        · subst d; rw [c4, hb] at w3; exact absurd w3.symm c
        · rw [b4 s w1 d] at w3; exact ⟨w1, by lia, w3⟩
  · by_cases c : s = A
    · subst c
      rw [c2, c3]
      refine ⟨t3, n0, t4, cn, by lia, ?_⟩
      simp only [m_hs]
      rw [szA, c4, ← hH]
      exact hof_congr n0 (fun k k0 k1 => (byA k k0 k1).symm)
    · obtain ⟨q1, q2, q3, q4, q5, q6⟩ := t6 s s0 (by lia)
      have w := hsm s s0 (.inl (by lia))
      rw [w.1, w.2.1]
      exact ⟨q1, q2, q3, q4, by lia, msm_hs w q2 q6⟩
  · by_cases c : m < U
    · rw [b7 m m0 c]; exact t7 m m0 c
    · have := c7 (m - U) (by lia) (by lia)
      rw [show U + (m - U) = m by lia] at this
      rw [this]
      exact B_nar _
