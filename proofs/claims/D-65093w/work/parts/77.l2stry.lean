/-! LAYER 2: the system's strings: compare, copy, is, mark, make -/
theorem sI_cp1 {σ : mS} {i j k : Nat} {sp dp n m : Int32} (h : k ≠ j) : sI (x_cp σ i sp j dp n) k m = sI σ k m := by
  simp only [sI, x_cp, va_up, if_neg h]
theorem sF_cp {σ : mS} {i j k : Nat} {sp dp n : Int32} : sF (x_cp σ i sp j dp n) k = sF σ k := nrf rfl
theorem sG_cp {σ : mS} {i j k : Nat} {sp dp n : Int32} : sG (x_cp σ i sp j dp n) k = sG σ k := nrf rfl
theorem sJ_cp {σ : mS} {i j k : Nat} {sp dp n m : Int32} : sJ (x_cp σ i sp j dp n) k m = sJ σ k m := nrf rfl
theorem min_x {N : Nat} {σ : mS} {a b : Int32} : xj8_min N σ a b = some (if a ≤ b then a else b, σ) := by
  by_cases h : a ≤ b
  · simp (disch := lia) only [xj8_min, xj8_min_b10, lt, gd_in, if_pos, if_neg, ↓reduceIte, gd_z0, gd_z1, gd_tt, sF_fold, sG_fold, sI_fold, sJ_fold]
  · simp (disch := lia) only [xj8_min, xj8_min_b10, lt, gd_in, if_pos, if_neg, ↓reduceIte, gd_z0, gd_z1, gd_tt, sF_fold, sG_fold, sI_fold, sJ_fold]
/-- how two rows of bytes stand to each other, as far as m -/
def cmpR (m d : Int32) (f g : Int32 → Int32) (r : Int32) : Prop := (∃ k, 0 ≤ k ∧ k < m ∧ (∀ j, 0 ≤ j → j < k → f j = g j) ∧ f k ≠ g k ∧ r = f k - g k) ∨ ((∀ j, 0 ≤ j → j < m → f j = g j) ∧ r = d)
theorem cmp_lp {N : Nat} {σ : mS} {a b m : Int32} (ha : x_sv σ a) (hb : x_sv σ b) (hm1 : m ≤ x_sz σ a) (hm2 : m ≤ x_sz σ b) : ∀ (n : Nat) (i : Int32), 0 ≤ i → i ≤ m → (m.toInt - i.toInt).toNat < n → (∀ j, 0 ≤ j → j < i → x_by σ a j = x_by σ b j) → ∃ r : Int32, xx2_compare_b19 N n a b m i σ = some (r, σ) ∧ cmpR m (x_sz σ a - x_sz σ b) (x_by σ a) (x_by σ b) r := by
  refine loop_up _ (fun n i h0 h1 ih he => ?_)
  have hat := @at_x N σ a i ha h0
  have hbt := @at_x N σ b i hb h0
  obtain ⟨a1, a2, a3, a4, a5, a6, a7, a8⟩ := ha
  obtain ⟨b1, b2, b3, b4, b5, b6, b7, b8⟩ := hb
  rw [xx2_compare_b19]
  by_cases c : i < m
  · simp (disch := lia) only [hat (by lia), hbt (by lia), bd, lt, gd_in, if_pos, if_neg, ↓reduceIte, gd_z0, gd_z1, gd_tt, sF_fold, sG_fold, sI_fold, sJ_fold]
    have r1 := @b_rng (if a < 12000 then sI σ 131 (sI σ 128 a + i) else sI σ 132 (sI σ 128 a + i))
    have r2 := @b_rng (if b < 12000 then sI σ 131 (sI σ 128 b + i) else sI σ 132 (sI σ 128 b + i))
    change 0 ≤ x_by σ a i ∧ x_by σ a i < 256 at r1
    change 0 ≤ x_by σ b i ∧ x_by σ b i < 256 at r2
    by_cases d : x_by σ a i = x_by σ b i
    · rw [if_pos (by lia)]
      exact ih c (fun j j0 j1 => by
        by_cases e : j = i
        · rw [e]; exact d
        · exact he j j0 (by lia))
    · rw [if_neg (by lia)]
      exact ⟨_, rfl, .inl ⟨i, h0, c, he, d, rfl⟩⟩
  · simp (disch := lia) only [lt, gd_in, if_pos, if_neg, ↓reduceIte, gd_z0, gd_z1, gd_tt, sF_fold, sG_fold, sI_fold, sJ_fold]
    exact ⟨_, rfl, .inr ⟨fun j j0 j1 => he j j0 (by lia), rfl⟩⟩
theorem compare_x {N : Nat} (hN : BIG ≤ N) {σ : mS} {a b : Int32} (ha : x_sv σ a) (hb : x_sv σ b) : ∃ r : Int32, xx2_compare N σ a b = some (r, σ) ∧ cmpR (if x_sz σ a ≤ x_sz σ b then x_sz σ a else x_sz σ b) (x_sz σ a - x_sz σ b) (x_by σ a) (x_by σ b) r := by
  have lp := cmp_lp (N := N) (m := if x_sz σ a ≤ x_sz σ b then x_sz σ a else x_sz σ b) ha hb (by split <;> lia) (by split <;> lia) N 0 (by lia) (by have q1 := ha.2.2.2.1; have q2 := hb.2.2.2.1; change 0 ≤ x_sz σ a at q1; change 0 ≤ x_sz σ b at q2; by_cases c : x_sz σ a ≤ x_sz σ b; rw [if_pos c]; exact q1; rw [if_neg c]; exact q2) (big_d hN) (fun j h0 h1 => by lia)
  obtain ⟨a1, a2, a3, a4, a5, a6, a7, a8⟩ := ha
  obtain ⟨b1, b2, b3, b4, b5, b6, b7, b8⟩ := hb
  simp (disch := lia) only [xx2_compare, lt, gd_in, if_pos, if_neg, ↓reduceIte, gd_z0, gd_z1, gd_tt, sF_fold, sG_fold, sI_fold, sJ_fold, min_x, bd]
  exact lp
/-- arrays of bytes that a string is copied to or made of -/
def x_ba (v : Nat) (L : Int32) : Prop := x_aB 4 v = true ∧ x_ln v < 2147483648 ∧ (OfNat.ofNat (x_ln v) : Int32) = L
theorem ba_12 : x_ba 12 8000 := ⟨by decide +kernel, by decide +kernel, by decide +kernel⟩
theorem ba_25 : x_ba 25 80000 := ⟨by decide +kernel, by decide +kernel, by decide +kernel⟩
theorem ba_131 : x_ba 131 300000 := ⟨by decide +kernel, by decide +kernel, by decide +kernel⟩
theorem ba_132 : x_ba 132 70000 := ⟨by decide +kernel, by decide +kernel, by decide +kernel⟩
theorem cB_x {v : Nat} {L p n : Int32} (h : x_ba v L) (h0 : 0 ≤ p) (h1 : 0 ≤ n) (h2 : p ≤ p + n) (h3 : p + n ≤ L) : x_cB p n (x_ln v) = true := by
  obtain ⟨_, k2, k3⟩ := h
  have e : L.toInt = x_ln v := by rw [← k3]; exact lit_toInt k2
  have e2 : (p + n).toInt = p.toInt + n.toInt := by
    have t := toNat_add h0 h1 h2
    rw [tI_le] at h0 h1 h2
    rw [tI_cl, tI_cl, tI_cl] at t
    have z : (0 : Int32).toInt = 0 := rfl
    omega
  rw [tI_le] at h0 h1 h3
  have z : (0 : Int32).toInt = 0 := rfl
  simp only [x_cB, Bool.and_eq_true, decide_eq_true_eq]
  omega
theorem gd_ba {α : Type} {v : Nat} {L i : Int32} {k : Option α} (h : x_ba v L) (h0 : 0 ≤ i) (h1 : i < L) : gd (inB i (x_ln v)) k = k := gd_in h.2.1 h0 (by rw [h.2.2]; exact h1)
/-- copy: the string's bytes come to the row -/
theorem copy_x {N : Nat} {σ : mS} {h at' L : Int32} {v : Nat} (hv : x_sv σ h) (hb : x_ba v L) (hne : v ≠ 131 ∧ v ≠ 132 ∧ v ≠ 129) (h0 : 0 ≤ at') (h1 : at' ≤ L) (h2 : at' + x_sz σ h ≤ L) (h3 : L ≤ 1000000) : ∃ w : Nat, xx2_copy N σ h v at' = some (at' + x_sz σ h, x_cp σ w (sI σ 128 h) v at' (x_sz σ h)) ∧ (∀ m, 0 ≤ m → at' ≤ m → m < at' + x_sz σ h → (sI (x_cp σ w (sI σ 128 h) v at' (x_sz σ h)) v m) &&& 255 = x_by σ h (m - at')) ∧ (∀ m k, 0 ≤ m → k ≠ v ∨ m < at' ∨ at' + x_sz σ h ≤ m → sI (x_cp σ w (sI σ 128 h) v at' (x_sz σ h)) k m = sI σ k m) := by
  obtain ⟨a1, a2, a3, a4, a5, a6, a7, a8⟩ := hv
  simp only [x_sz] at *
  refine ⟨if h < 12000 then 131 else 132, ?_, ?_, ?_⟩
  · by_cases c : h < 12000
    · simp (disch := lia) only [xx2_copy, xx2_copy_b18, lt, gd_in, if_pos, if_neg, ↓reduceIte, gd_z0, gd_z1, gd_tt, sF_fold, sG_fold, sI_fold, sJ_fold, hb.1, ba_131.1, cB_x hb, cB_x ba_131, Bool.and_true, sI_cp1 (Ne.symm hne.2.2)]
    · have := a8 (by lia)
      simp (disch := lia) only [xx2_copy, xx2_copy_b18, lt, gd_in, if_pos, if_neg, ↓reduceIte, gd_z0, gd_z1, gd_tt, sF_fold, sG_fold, sI_fold, sJ_fold, hb.1, ba_132.1, cB_x hb, cB_x ba_132, Bool.and_true, sI_cp1 (Ne.symm hne.2.2)]
  · intro m m0 m1 m2
    rw [sI_cp a3 h0 a4 m0 (by lia) (by lia), if_pos ⟨rfl, m1, m2⟩]
    by_cases c : h < 12000
    · simp only [x_by, if_pos c]
    · simp only [x_by, if_neg c]
  · intro m k m0 m1
    rw [sI_cp a3 h0 a4 m0 (by lia) (by lia), if_neg (by rintro ⟨q1, q2, q3⟩; rcases m1 with m1 | m1 | m1; exact m1 q1; lia; lia)]
theorem mark_x {N : Nat} {σ : mS} {h : Int32} (h0 : 0 ≤ h) : xx2_mark N σ h = some (if h < 12000 then md_ai σ 142 h.toNatClampNeg 1 else σ) := by
  by_cases c : h < 12000
  · simp (disch := lia) only [xx2_mark, xx2_mark_b14, lt, gd_in, if_pos, if_neg, ↓reduceIte, gd_z0, gd_z1, gd_tt, sF_fold, sG_fold, sI_fold, sJ_fold]
    rfl
  · simp (disch := lia) only [xx2_mark, xx2_mark_b14, lt, gd_in, if_pos, if_neg, ↓reduceIte, gd_z0, gd_z1, gd_tt, sF_fold, sG_fold, sI_fold, sJ_fold]
