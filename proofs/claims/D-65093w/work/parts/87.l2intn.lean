/-! LAYER 2: the reference's strings that are always there: intern whole, forgetStrings -/
theorem int_old {σ : mS} {bk : Int32 → List Int32} {v : Nat} {p n s : Int32} (H : TM σ bk) (h0 : 0 ≤ s) (h1 : s < sF σ 5) (e : tm_eq σ v p n s) : in_post σ σ v p n s := ⟨⟨bk, H⟩, h0, h1, e.1, e.2, fun _ _ _ => ⟨rfl, rfl, rfl, fun _ _ _ => rfl⟩, .inl rfl, fun _ _ _ => ⟨rfl, rfl, rfl⟩, mf_rfl⟩
theorem int_new {N : Nat} (hN : BIG ≤ N) {σ : mS} {bk : Int32 → List Int32} {p n L Hh b : Int32} {v : Nat} (H : TM σ bk) (hv : m_ba v L) (hne : v ≠ 2 ∧ v ≠ 3 ∧ v ≠ 4 ∧ v ≠ 7) (p0 : 0 ≤ p) (n0 : 0 ≤ n) (pn : p ≤ p + n) (pL : p + n ≤ L) (cA : sF σ 5 < 30000) (cU : sF σ 6 + n ≤ 72000) (cn : n ≤ 72000) (hH : hof 7 (fun m => sI σ v (p + m) &&& 255) n = Hh) (hb : Hh &&& 8191 = b) (k : Nat) : ∃ s τ, mm_intern_51 N (k + 1) v p n Hh b (-1) σ = some (s, τ) ∧ in_post σ τ v p n s := by
  obtain ⟨r1, r2⟩ := @and_8191 Hh
  rw [hb] at r1 r2
  have t1 := H.1
  have t3 := H.2.2.1
  have t4 := H.2.2.2.1
  generalize hA : sF σ 5 = A at *
  generalize hU : sF σ 6 = U at *
  obtain ⟨v1, v2, v3, v4⟩ := hne
  obtain ⟨g, g1, g2, g3⟩ := int_cp (N := N) (σ := md_ai (md_ai (md_ai (md_pi σ 5 (A + 1)) 2 A.toNatClampNeg U) 3 A.toNatClampNeg n) 4 A.toNatClampNeg Hh) (b := b) (s := A) hv v4 p0 pn pL (by simp only [sF_pi, sF_pl, sF_ai, sF_al, sG_pi, sG_pl, sG_ai, sG_al, sI_pi, sI_pl, sI_al, sI_ai1, sI_ai2, sJ_pi, sJ_pl, sJ_ai, sJ_al1, sJ_al2, Nat.reduceEqDiff, if_true, if_false, ne_eq, not_false_eq_true, ite_true, ite_false, hU]) t3 t4 cU cn r1 r2 t1 cA N 0 (by decide) n0 (big_d hN) (σ.2.2.1 7) (fun m m0 m1 => by lia) (fun m m0 m1 => by simp (disch := lia) only [sF_pi, sF_pl, sF_ai, sF_al, sG_pi, sG_pl, sG_ai, sG_al, sI_pi, sI_pl, sI_al, sI_ai1, sI_ai2, sJ_pi, sJ_pl, sJ_ai, sJ_al1, sJ_al2, Nat.reduceEqDiff, if_true, if_false, ne_eq, not_false_eq_true, ite_true, ite_false]; rfl)
  have e0 : md_row (md_ai (md_ai (md_ai (md_pi σ 5 (A + 1)) 2 A.toNatClampNeg U) 3 A.toNatClampNeg n) 4 A.toNatClampNeg Hh) 7 (σ.2.2.1 7) = md_ai (md_ai (md_ai (md_pi σ 5 (A + 1)) 2 A.toNatClampNeg U) 3 A.toNatClampNeg n) 4 A.toNatClampNeg Hh := row_id (σ := md_ai (md_ai (md_ai (md_pi σ 5 (A + 1)) 2 A.toNatClampNeg U) 3 A.toNatClampNeg n) 4 A.toNatClampNeg Hh)
  rw [e0] at g1
  simp (disch := lia) only [sF_pi, sF_pl, sF_ai, sF_al, sG_pi, sG_pl, sG_ai, sG_al, sI_pi, sI_pl, sI_al, sI_ai1, sI_ai2, sJ_pi, sJ_pl, sJ_ai, sJ_al1, sJ_al2, Nat.reduceEqDiff, if_true, if_false, ne_eq, not_false_eq_true, ite_true, ite_false] at g1 g2 g3
  refine ⟨A, md_ai (md_ai (md_pi (md_row (md_ai (md_ai (md_ai (md_pi σ 5 (A + 1)) 2 A.toNatClampNeg U) 3 A.toNatClampNeg n) 4 A.toNatClampNeg Hh) 7 g) 6 (U + n)) 8 A.toNatClampNeg (sI σ 9 b)) 9 b.toNatClampNeg (A + 1), ?_, int_pst H hA hU n0 cA cU cn hH hb ?_ ?_ ?_ ?_ ?_ ?_ ?_ ?_ ?_ ?_ ?_⟩
  rotate_left 1
  · simp only [sF_pi, sF_pl, sF_ai, sF_al, sG_pi, sG_pl, sG_ai, sG_al, sI_pi, sI_pl, sI_al, sI_ai1, sI_ai2, sJ_pi, sJ_pl, sJ_ai, sJ_al1, sJ_al2, Nat.reduceEqDiff, if_true, if_false, ne_eq, not_false_eq_true, ite_true, ite_false, sF_row]
  · simp only [sF_pi, sF_pl, sF_ai, sF_al, sG_pi, sG_pl, sG_ai, sG_al, sI_pi, sI_pl, sI_al, sI_ai1, sI_ai2, sJ_pi, sJ_pl, sJ_ai, sJ_al1, sJ_al2, Nat.reduceEqDiff, if_true, if_false, ne_eq, not_false_eq_true, ite_true, ite_false, sF_row]
  · intro m m0
    simp (disch := lia) only [sF_pi, sF_pl, sF_ai, sF_al, sG_pi, sG_pl, sG_ai, sG_al, sI_pi, sI_pl, sI_al, sI_ai1, sI_ai2, sJ_pi, sJ_pl, sJ_ai, sJ_al1, sJ_al2, Nat.reduceEqDiff, if_true, if_false, ne_eq, not_false_eq_true, ite_true, ite_false, sI_row1, sI_ai, true_and]
  · intro m m0
    simp (disch := lia) only [sF_pi, sF_pl, sF_ai, sF_al, sG_pi, sG_pl, sG_ai, sG_al, sI_pi, sI_pl, sI_al, sI_ai1, sI_ai2, sJ_pi, sJ_pl, sJ_ai, sJ_al1, sJ_al2, Nat.reduceEqDiff, if_true, if_false, ne_eq, not_false_eq_true, ite_true, ite_false, sI_row1, sI_ai, true_and]
  · intro m m0
    simp (disch := lia) only [sF_pi, sF_pl, sF_ai, sF_al, sG_pi, sG_pl, sG_ai, sG_al, sI_pi, sI_pl, sI_al, sI_ai1, sI_ai2, sJ_pi, sJ_pl, sJ_ai, sJ_al1, sJ_al2, Nat.reduceEqDiff, if_true, if_false, ne_eq, not_false_eq_true, ite_true, ite_false, sI_row1, sI_ai, true_and]
  · intro m m0
    simp (disch := lia) only [sF_pi, sF_pl, sF_ai, sF_al, sG_pi, sG_pl, sG_ai, sG_al, sI_pi, sI_pl, sI_al, sI_ai1, sI_ai2, sJ_pi, sJ_pl, sJ_ai, sJ_al1, sJ_al2, Nat.reduceEqDiff, if_true, if_false, ne_eq, not_false_eq_true, ite_true, ite_false, sI_row1, sI_ai, true_and]
  · intro m m0
    simp (disch := lia) only [sF_pi, sF_pl, sF_ai, sF_al, sG_pi, sG_pl, sG_ai, sG_al, sI_pi, sI_pl, sI_al, sI_ai1, sI_ai2, sJ_pi, sJ_pl, sJ_ai, sJ_al1, sJ_al2, Nat.reduceEqDiff, if_true, if_false, ne_eq, not_false_eq_true, ite_true, ite_false, sI_row1, sI_ai, true_and]
  · intro k k0 k1
    simp (disch := lia) only [sF_pi, sF_pl, sF_ai, sF_al, sG_pi, sG_pl, sG_ai, sG_al, sI_pi, sI_pl, sI_al, sI_ai1, sI_ai2, sJ_pi, sJ_pl, sJ_ai, sJ_al1, sJ_al2, Nat.reduceEqDiff, if_true, if_false, ne_eq, not_false_eq_true, ite_true, ite_false, sI_row2]
    exact g2 k k0 k1
  · intro m m0 m1
    simp (disch := lia) only [sF_pi, sF_pl, sF_ai, sF_al, sG_pi, sG_pl, sG_ai, sG_al, sI_pi, sI_pl, sI_al, sI_ai1, sI_ai2, sJ_pi, sJ_pl, sJ_ai, sJ_al1, sJ_al2, Nat.reduceEqDiff, if_true, if_false, ne_eq, not_false_eq_true, ite_true, ite_false, sI_row2]
    exact g3 m m0 (.inl m1)
  · intro m
    simp (disch := lia) only [sF_pi, sF_pl, sF_ai, sF_al, sG_pi, sG_pl, sG_ai, sG_al, sI_pi, sI_pl, sI_al, sI_ai1, sI_ai2, sJ_pi, sJ_pl, sJ_ai, sJ_al1, sJ_al2, Nat.reduceEqDiff, if_true, if_false, ne_eq, not_false_eq_true, ite_true, ite_false, sI_row1]
  · exact mf_ai (mf_ai (mf_pi (mf_row (mf_ai (mf_ai (mf_ai (mf_pi mf_rfl rfl) rfl) rfl) rfl) rfl) rfl) rfl) rfl
  · rw [mm_intern_51]
    simp (disch := lia) only [lt, gd_in, if_pos, if_neg, ↓reduceIte, gd_z0, gd_z1, gd_tt, sF_fold, sG_fold, sI_fold, sJ_fold, sF_pi, sF_pl, sF_ai, sF_al, sG_pi, sG_pl, sG_ai, sG_al, sI_pi, sI_pl, sI_al, sI_ai1, sI_ai2, sJ_pi, sJ_pl, sJ_ai, sJ_al1, sJ_al2, Nat.reduceEqDiff, if_true, if_false, ne_eq, not_false_eq_true, ite_true, ite_false, hA, hU]
    exact g1
theorem int_ch {N : Nat} (hN : BIG ≤ N) {σ : mS} {bk : Int32 → List Int32} {p n L Hh b : Int32} {v : Nat} (H : TM σ bk) (hv : m_ba v L) (hne : v ≠ 2 ∧ v ≠ 3 ∧ v ≠ 4 ∧ v ≠ 7) (p0 : 0 ≤ p) (n0 : 0 ≤ n) (pn : p ≤ p + n) (pL : p + n ≤ L) (cA : sF σ 5 < 30000) (cU : sF σ 6 + n ≤ 72000) (cn : n ≤ 72000) (hB : ∀ k, 0 ≤ k → k < n → isB (sI σ v (p + k))) (hH : hof 7 (fun m => sI σ v (p + m) &&& 255) n = Hh) (hb : Hh &&& 8191 = b) : ∀ (l : List Int32) (k : Nat) (s : Int32), l.length < k → seg (fun s => sI σ 8 s - 1) s l (-1) → (∀ x, x ∈ l → 0 ≤ x ∧ x < sF σ 5) → ∃ s' τ, mm_intern_51 N k v p n Hh b s σ = some (s', τ) ∧ in_post σ τ v p n s'
  | [], k, s, hk, hs, _ => by
    obtain ⟨k, rfl⟩ : ∃ j, k = j + 1 := ⟨k - 1, by simp at hk; omega⟩
    have : s = -1 := hs
    subst this
    exact int_new hN H hv hne p0 n0 pn pL cA cU cn hH hb k
  | x :: l, k, s, hk, hs, hx => by
    obtain ⟨k, rfl⟩ : ∃ j, k = j + 1 := ⟨k - 1, by simp at hk; omega⟩
    obtain ⟨e, hs'⟩ := hs
    subst e
    have ih := int_ch hN H hv hne p0 n0 pn pL cA cU cn hB hH hb l k (sI σ 8 s - 1) (by simp at hk; omega) hs' (fun y hy => hx y (List.mem_cons_of_mem _ hy))
    obtain ⟨s0, s1⟩ := hx s List.mem_cons_self
    obtain ⟨q1, q2, q3, q4, q5, q6⟩ := H.2.2.2.2.2.1 s s0 s1
    have t4 := H.2.2.2.1
    have tb := H.2.2.2.2.2.2
    have s2 : s < 30000 := by lia
    clear hx
    by_cases d2 : sI σ 3 s = n
    · obtain ⟨lp1, lp0⟩ := int_cmp (N := N) (σ := σ) (r51 := mm_intern_51 N k) (s := s) (h := Hh) (b := b) hv p0 pn pL s0 s2 q1 q3 q4 (by lia) d2 N 0 (by decide) n0 (big_d hN)
      by_cases d1 : sI σ 4 s = Hh
      · have ex : mm_intern_51 N (k + 1) v p n Hh b s σ = mm_intern_89 N (mm_intern_51 N k) N v p n Hh b s 1 0 σ := by
          rw [mm_intern_51]
          simp (disch := lia) only [lt, gd_in, if_pos, if_neg, ↓reduceIte, gd_z0, gd_z1, gd_tt, sF_fold, sG_fold, sI_fold, sJ_fold, d1, d2, mm_intern_84]
        rw [ex]
        rcases lp1 with ⟨w1, w2⟩ | ⟨w1, w2⟩
        · refine ⟨s, σ, w2, int_old H s0 s1 ⟨d2, fun k k0 k1 => ?_⟩⟩
          simp only [m_by]
          rw [if_pos s2, w1 k k0 k1]
        · rw [w2]; exact ih
      · have ex : mm_intern_51 N (k + 1) v p n Hh b s σ = mm_intern_89 N (mm_intern_51 N k) N v p n Hh b s 0 0 σ := by
          rw [mm_intern_51]
          simp (disch := lia) only [lt, gd_in, if_pos, if_neg, ↓reduceIte, gd_z0, gd_z1, gd_tt, sF_fold, sG_fold, sI_fold, sJ_fold, d1, mm_intern_84, mm_intern_83]
        rw [ex, lp0]
        exact ih
    · have ex : mm_intern_51 N (k + 1) v p n Hh b s σ = mm_intern_89 N (mm_intern_51 N k) N v p n Hh b s 0 0 σ := by
        rw [mm_intern_51]
        by_cases d1 : sI σ 4 s = Hh
        · simp (disch := lia) only [lt, gd_in, if_pos, if_neg, ↓reduceIte, gd_z0, gd_z1, gd_tt, sF_fold, sG_fold, sI_fold, sJ_fold, d1, d2, mm_intern_84, mm_intern_83]
        · simp (disch := lia) only [lt, gd_in, if_pos, if_neg, ↓reduceIte, gd_z0, gd_z1, gd_tt, sF_fold, sG_fold, sI_fold, sJ_fold, d1, mm_intern_84, mm_intern_83]
      have go : mm_intern_89 N (mm_intern_51 N k) N v p n Hh b s 0 0 σ = mm_intern_51 N k v p n Hh b (sI σ 8 s - 1) σ := by
        obtain ⟨j, hj⟩ : ∃ j, N = j + 1 := ⟨N - 1, by simp only [BIG] at hN; omega⟩
        have : mm_intern_89 N (mm_intern_51 N k) (j + 1) v p n Hh b s 0 0 σ = mm_intern_51 N k v p n Hh b (sI σ 8 s - 1) σ := by
          rw [mm_intern_89]
          by_cases c : n ≤ 0
          · simp (disch := lia) only [lt, gd_in, if_pos, if_neg, ↓reduceIte, gd_z0, gd_z1, gd_tt, sF_fold, sG_fold, sI_fold, sJ_fold, mm_intern_137]
          · simp (disch := lia) only [lt, gd_in, if_pos, if_neg, ↓reduceIte, gd_z0, gd_z1, gd_tt, sF_fold, sG_fold, sI_fold, sJ_fold, mm_intern_137]
        rw [← hj] at this
        exact this
      rw [ex, go]
      exact ih
theorem pw_len : ∀ (l : List Int32) (A : Int32), l.Pairwise (fun x y => y < x) → (∀ x, x ∈ l → 0 ≤ x ∧ x < A) → (l.length : Int) ≤ A.toInt ∨ l = []
  | [], _, _, _ => .inr rfl
  | x :: l, A, h, hx => by
    left
    obtain ⟨h1, h2⟩ := List.pairwise_cons.mp h
    have w := hx x List.mem_cons_self
    have w1 := w.1
    have w2 := w.2
    rw [tI_le] at w1
    rw [tI_lt] at w2
    have z : (0 : Int32).toInt = 0 := rfl
    rcases pw_len l x h2 (fun y hy => ⟨(hx y (List.mem_cons_of_mem _ hy)).1, h1 y hy⟩) with e | e
    · simp only [List.length_cons]; omega
    · subst e; simp only [List.length_cons, List.length_nil]; omega
theorem intern_m {N : Nat} (hN : BIG ≤ N) {σ : mS} {bk : Int32 → List Int32} {p n L : Int32} {v : Nat} (H : TM σ bk) (hv : m_ba v L) (hne : v ≠ 2 ∧ v ≠ 3 ∧ v ≠ 4 ∧ v ≠ 7) (p0 : 0 ≤ p) (n0 : 0 ≤ n) (pn : p ≤ p + n) (pL : p + n ≤ L) (cA : sF σ 5 < 30000) (cU : sF σ 6 + n ≤ 72000) (cn : n ≤ 72000) (hB : ∀ k, 0 ≤ k → k < n → isB (sI σ v (p + k))) : ∃ s τ, mm_intern N σ v p n = some (s, τ) ∧ in_post σ τ v p n s := by
  have l1 := int_l1 (N := N) (σ := σ) hv p0 pn pL N 0 (by decide) n0 (big_d hN)
  rw [hof_0] at l1
  rw [mm_intern, l1]
  obtain ⟨r1, r2⟩ := @and_8191 (hof 7 (fun m => sI σ v (p + m) &&& 255) n)
  obtain ⟨u1, u2, u3⟩ := H.2.2.2.2.1 _ r1 r2
  refine int_ch hN H hv hne p0 n0 pn pL cA cU cn hB rfl rfl _ N _ ?_ u1 (fun x hx => ⟨((u3 x).mp hx).1, ((u3 x).mp hx).2.1⟩)
  have q := H.2.1
  rw [tI_le] at q
  have z : (30000 : Int32).toInt = 30000 := rfl
  simp only [BIG] at hN
  rcases pw_len _ (sF σ 5) u2 (fun x hx => ⟨((u3 x).mp hx).1, ((u3 x).mp hx).2.1⟩) with e | e
  · omega
  · rw [e]; simp only [List.length_nil]; omega
/-- what forgetStrings does -/
def fg_post (σ τ : mS) (bk : Int32 → List Int32) (c u : Int32) : Prop := (∃ bk', TM τ bk') ∧ sF τ 5 = c ∧ sF τ 6 = u ∧ (∀ k m, k ≠ 9 → sI τ k m = sI σ k m) ∧ m_fr (fun k => [5, 6, 9].contains k) σ τ
/-- the piles stay good while the last ones go -/
theorem fg_lp {N : Nat} {c u : Int32} (c0 : 0 ≤ c) (u0 : 0 ≤ u) (u1 : u ≤ 72000) : ∀ (n : Nat) (A : Int32), c ≤ A → A ≤ 30000 → (A.toInt - c.toInt).toNat < n → ∀ (σ : mS) (bk : Int32 → List Int32), TM σ bk → sF σ 5 = A → (∀ s, 0 ≤ s → s < c → sI σ 2 s + sI σ 3 s ≤ u) → u ≤ sF σ 6 → ∃ τ, mm_forgetStrings_0 N n c u σ = some τ ∧ fg_post σ τ bk c u := by
  refine loop_dn _ (fun n A h0 h1 ih σ bk H hA hu hu6 => ?_)
  rw [mm_forgetStrings_0]
  obtain ⟨t1, t2, t3, t4, t5, t6, t7⟩ := H
  by_cases d : A = c
  · refine ⟨md_pi σ 6 u, by simp (disch := lia) only [lt, gd_in, if_pos, if_neg, ↓reduceIte, gd_z0, gd_z1, gd_tt, sF_fold, sG_fold, sI_fold, sJ_fold, hA], ⟨bk, ?_⟩, by simp only [sF_pi, sF_pl, sF_ai, sF_al, sG_pi, sG_pl, sG_ai, sG_al, sI_pi, sI_pl, sI_al, sI_ai1, sI_ai2, sJ_pi, sJ_pl, sJ_ai, sJ_al1, sJ_al2, Nat.reduceEqDiff, if_true, if_false, ne_eq, not_false_eq_true, ite_true, ite_false, hA, d], by simp only [sF_pi, sF_pl, sF_ai, sF_al, sG_pi, sG_pl, sG_ai, sG_al, sI_pi, sI_pl, sI_al, sI_ai1, sI_ai2, sJ_pi, sJ_pl, sJ_ai, sJ_al1, sJ_al2, Nat.reduceEqDiff, if_true, if_false, ne_eq, not_false_eq_true, ite_true, ite_false], fun k m _ => by rw [sI_pi], mf_pi mf_rfl rfl⟩
    simp only [TM, sF_pi, sF_pl, sF_ai, sF_al, sG_pi, sG_pl, sG_ai, sG_al, sI_pi, sI_pl, sI_al, sI_ai1, sI_ai2, sJ_pi, sJ_pl, sJ_ai, sJ_al1, sJ_al2, Nat.reduceEqDiff, if_true, if_false, ne_eq, not_false_eq_true, ite_true, ite_false]
    refine ⟨t1, t2, u0, u1, t5, fun s s0 s1 => ?_, fun m m0 m1 => t7 m m0 (by lia)⟩
    obtain ⟨q1, q2, q3, q4, q5, q6⟩ := t6 s s0 s1
    exact ⟨q1, q2, q3, q4, hu s s0 (by rw [hA, d] at s1; exact s1), q6⟩
  · obtain ⟨r1, r2⟩ := @and_8191 (sI σ 4 (A - 1))
    generalize hb : sI σ 4 (A - 1) &&& 8191 = b at *
    rw [hA] at t5 t6
    have hd : 0 ≤ A - 1 ∧ A - 1 < 30000 ∧ A - 1 < A := ⟨by lia, by lia, by lia⟩
    obtain ⟨z0, z1, z2⟩ := hd
    have H' : TM (md_ai (md_pi σ 5 (A - 1)) 9 b.toNatClampNeg (sI σ 8 (A - 1))) (fun x => if x = b then (bk b).tail else bk x) := by
      simp only [TM]
      have e8 : (fun s => sI (md_ai (md_pi σ 5 (A - 1)) 9 b.toNatClampNeg (sI σ 8 (A - 1))) 8 s - 1) = (fun s => sI σ 8 s - 1) := by
        funext s
        simp (disch := lia) only [sF_pi, sF_pl, sF_ai, sF_al, sG_pi, sG_pl, sG_ai, sG_al, sI_pi, sI_pl, sI_al, sI_ai1, sI_ai2, sJ_pi, sJ_pl, sJ_ai, sJ_al1, sJ_al2, Nat.reduceEqDiff, if_true, if_false, ne_eq, not_false_eq_true, ite_true, ite_false]
      rw [e8]
      simp (disch := lia) only [sF_pi, sF_pl, sF_ai, sF_al, sG_pi, sG_pl, sG_ai, sG_al, sI_pi, sI_pl, sI_al, sI_ai1, sI_ai2, sJ_pi, sJ_pl, sJ_ai, sJ_al1, sJ_al2, Nat.reduceEqDiff, if_true, if_false, ne_eq, not_false_eq_true, ite_true, ite_false]
      refine ⟨z0, by lia, t3, t4, fun x x0 x1 => ?_, fun s s0 s1 => ?_, t7⟩
      · obtain ⟨w1, w2, w3⟩ := t5 x x0 x1
        by_cases c : x = b
        · subst c
          rw [if_pos rfl]
          simp only [sF_pi, sF_pl, sF_ai, sF_al, sG_pi, sG_pl, sG_ai, sG_al, sI_pi, sI_pl, sI_al, sI_ai1, sI_ai2, sJ_pi, sJ_pl, sJ_ai, sJ_al1, sJ_al2, Nat.reduceEqDiff, if_true, if_false, ne_eq, not_false_eq_true, ite_true, ite_false]
          have mem : A - 1 ∈ bk x := (w3 (A - 1)).mpr ⟨z0, z2, hb⟩
          cases hl : bk x with
          | nil => rw [hl] at mem; exact absurd mem (by simp)
          | cons y l =>
            rw [hl] at w1 w2 w3 mem
            obtain ⟨p1, p2⟩ := List.pairwise_cons.mp w2
            have ey : y = A - 1 := by
              rcases List.mem_cons.mp mem with e | e
              · exact e.symm
              · have a1 := p1 _ e
                have a2 := ((w3 y).mp List.mem_cons_self).2.1
                lia
            subst ey
            refine ⟨w1.2, p2, fun s => ?_⟩
            simp only [List.tail_cons]
            constructor
            · intro hs
              have a1 := p1 s hs
              have a2 := (w3 s).mp (List.mem_cons_of_mem _ hs)
              exact ⟨a2.1, a1, a2.2.2⟩
            · rintro ⟨a1, a2, a3⟩
              rcases List.mem_cons.mp ((w3 s).mpr ⟨a1, by lia, a3⟩) with e | e
              · lia
              · exact e
        · rw [if_neg c, sI_ai r1 x0, if_neg (fun q => c q.2), sI_pi]
          refine ⟨w1, w2, fun s => ?_⟩
          rw [w3]
          constructor
          · rintro ⟨a1, a2, a3⟩
            refine ⟨a1, ?_, a3⟩
            by_cases e : s = A - 1
            · subst e; rw [hb] at a3; exact absurd a3.symm c
            · lia
          · rintro ⟨a1, a2, a3⟩
            exact ⟨a1, by lia, a3⟩
      · obtain ⟨q1, q2, q3, q4, q5, q6⟩ := t6 s s0 (by lia)
        refine ⟨q1, q2, q3, q4, q5, ?_⟩
        have : m_by (md_ai (md_pi σ 5 (A - 1)) 9 b.toNatClampNeg (sI σ 8 (A - 1))) s = m_by σ s := by
          funext k
          simp (disch := lia) only [m_by, sF_pi, sF_pl, sF_ai, sF_al, sG_pi, sG_pl, sG_ai, sG_al, sI_pi, sI_pl, sI_al, sI_ai1, sI_ai2, sJ_pi, sJ_pl, sJ_ai, sJ_al1, sJ_al2, Nat.reduceEqDiff, if_true, if_false, ne_eq, not_false_eq_true, ite_true, ite_false]
        simp (disch := lia) only [m_hs, m_sz, sF_pi, sF_pl, sF_ai, sF_al, sG_pi, sG_pl, sG_ai, sG_al, sI_pi, sI_pl, sI_al, sI_ai1, sI_ai2, sJ_pi, sJ_pl, sJ_ai, sJ_al1, sJ_al2, Nat.reduceEqDiff, if_true, if_false, ne_eq, not_false_eq_true, ite_true, ite_false, this]
        exact q6
    obtain ⟨τ, e1, e2, e3, e4, e5, e6⟩ := ih (by lia) _ _ H' (by simp only [sF_pi, sF_pl, sF_ai, sF_al, sG_pi, sG_pl, sG_ai, sG_al, sI_pi, sI_pl, sI_al, sI_ai1, sI_ai2, sJ_pi, sJ_pl, sJ_ai, sJ_al1, sJ_al2, Nat.reduceEqDiff, if_true, if_false, ne_eq, not_false_eq_true, ite_true, ite_false]) (fun s s0 s1 => by simp (disch := lia) only [sF_pi, sF_pl, sF_ai, sF_al, sG_pi, sG_pl, sG_ai, sG_al, sI_pi, sI_pl, sI_al, sI_ai1, sI_ai2, sJ_pi, sJ_pl, sJ_ai, sJ_al1, sJ_al2, Nat.reduceEqDiff, if_true, if_false, ne_eq, not_false_eq_true, ite_true, ite_false]; exact hu s s0 s1) (by simp only [sF_pi, sF_pl, sF_ai, sF_al, sG_pi, sG_pl, sG_ai, sG_al, sI_pi, sI_pl, sI_al, sI_ai1, sI_ai2, sJ_pi, sJ_pl, sJ_ai, sJ_al1, sJ_al2, Nat.reduceEqDiff, if_true, if_false, ne_eq, not_false_eq_true, ite_true, ite_false]; exact hu6)
    refine ⟨τ, ?_, e2, e3, e4, fun k m hk => by rw [e5 k m hk, sI_ai1 hk, sI_pi], mf_tr (mf_ai (mf_pi mf_rfl rfl) rfl) e6⟩
    clear t5 t6 t7 ih H' hu
    simp (disch := lia) only [lt, gd_in, if_pos, if_neg, ↓reduceIte, gd_z0, gd_z1, gd_tt, sF_fold, sG_fold, sI_fold, sJ_fold, sF_pi, sF_pl, sF_ai, sF_al, sG_pi, sG_pl, sG_ai, sG_al, sI_pi, sI_pl, sI_al, sI_ai1, sI_ai2, sJ_pi, sJ_pl, sJ_ai, sJ_al1, sJ_al2, Nat.reduceEqDiff, if_true, if_false, ne_eq, not_false_eq_true, ite_true, ite_false, hA, hb]
    exact e1
theorem forget_m {N : Nat} (hN : BIG ≤ N) {σ : mS} {bk : Int32 → List Int32} {c u : Int32} (H : TM σ bk) (c0 : 0 ≤ c) (c1 : c ≤ sF σ 5) (u0 : 0 ≤ u) (u1 : u ≤ sF σ 6) (hu : ∀ s, 0 ≤ s → s < c → sI σ 2 s + sI σ 3 s ≤ u) : ∃ τ, mm_forgetStrings N σ c u = some τ ∧ fg_post σ τ bk c u :=
  fg_lp c0 u0 (by have := H.2.2.2.1; lia) N (sF σ 5) c1 H.2.1 (big_d hN) σ bk H rfl hu u1
