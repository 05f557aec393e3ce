/-! LAYER 2: the system's strings -/
theorem gd_z0 {α : Type} {k : Option α} : gd (zB 0) k = k := rfl
theorem gd_z1 {α : Type} {k : Option α} : gd (zB 1) k = k := rfl
theorem gd_tt {α : Type} {k : Option α} : gd true k = k := rfl
theorem toNat_add {a b : Int32} (ha : 0 ≤ a) (hb : 0 ≤ b) (h : a ≤ a + b) : (a + b).toNatClampNeg = a.toNatClampNeg + b.toNatClampNeg := by
  rw [tI_le] at ha hb h
  have h0 : (0 : Int32).toInt = 0 := rfl
  rw [tI_cl, tI_cl, tI_cl]
  have e : (a + b).toInt = a.toInt + b.toInt := by
    have := tI_rng a
    have := tI_rng b
    rcases (by omega : a.toInt + b.toInt < 2147483648 ∨ 2147483648 ≤ a.toInt + b.toInt) with h' | h'
    · exact tI_add (by omega) h'
    · exfalso
      have e2 : (a + b).toInt = a.toInt + b.toInt - 4294967296 := by
        rw [Int32.toInt_add]
        rw [Int.bmod_def]
        omega
      omega
  omega
theorem sI_cp {σ : mS} {i j k : Nat} {sp dp n m : Int32} (h1 : 0 ≤ sp) (h2 : 0 ≤ dp) (h3 : 0 ≤ n) (h4 : 0 ≤ m) (h5 : sp ≤ sp + n) (h6 : dp ≤ dp + n) : sI (x_cp σ i sp j dp n) k m = if k = j ∧ dp ≤ m ∧ m < dp + n then sI σ i (sp + (m - dp)) else sI σ k m := by
  simp only [sI, x_cp, va_up]
  by_cases hk : k = j
  · subst hk
    simp only [if_true, va_cpy, true_and]
    have e1 := toNat_add h2 h3 h6
    by_cases hc : dp ≤ m ∧ m < dp + n
    · rw [if_pos hc]
      have e4 := toNat_add h2 (by lia : (0 : Int32) ≤ m - dp) (by lia)
      rw [show dp + (m - dp) = m by lia] at e4
      have e5 := toNat_add h1 (by lia : (0 : Int32) ≤ m - dp) (by lia)
      have e6 : m.toNatClampNeg < (dp + n).toNatClampNeg := by
        have h := hc.2
        have h' := hc.1
        rw [tI_lt] at h
        rw [tI_le] at h4
        rw [tI_cl, tI_cl]
        have h0 : (0 : Int32).toInt = 0 := rfl
        omega
      rw [if_pos (by omega), e5, show m.toNatClampNeg - dp.toNatClampNeg = (m - dp).toNatClampNeg by omega]
    · rw [if_neg hc]
      have e6 : m.toNatClampNeg < dp.toNatClampNeg ∨ (dp + n).toNatClampNeg ≤ m.toNatClampNeg := by
        rw [tI_cl, tI_cl, tI_cl]
        rcases (by lia : m < dp ∨ dp + n ≤ m) with h | h
        · rw [tI_lt] at h
          rw [tI_le] at h4
          have h0 : (0 : Int32).toInt = 0 := rfl
          omega
        · rw [tI_le] at h
          omega
      rw [if_neg (by omega)]
  · simp [hk]
def x_sz (σ : mS) (h : Int32) : Int32 := sI σ 129 h
def x_by (σ : mS) (h k : Int32) : Int32 := (if h < 12000 then sI σ 131 (sI σ 128 h + k) else sI σ 132 (sI σ 128 h + k)) &&& 255
def x_sv (σ : mS) (h : Int32) : Prop := 0 ≤ h ∧ h < 44000 ∧ 0 ≤ sI σ 128 h ∧ 0 ≤ sI σ 129 h ∧ sI σ 128 h ≤ 300000 ∧ sI σ 129 h ≤ 300000 ∧ sI σ 128 h + sI σ 129 h ≤ 300000 ∧ (12000 ≤ h → sI σ 128 h + sI σ 129 h ≤ 70000)
theorem at_x {N : Nat} {σ : mS} {h k : Int32} (hv : x_sv σ h) (h0 : 0 ≤ k) (h1 : k < x_sz σ h) : xx2_at N σ h k = some (x_by σ h k, σ) := by
  obtain ⟨a1, a2, a3, a4, a5, a6, a7, a8⟩ := hv
  simp only [x_sz] at h1
  by_cases c : h < 12000
  · simp (disch := lia) only [xx2_at, x_by, xx2_at_b36, lt, gd_in, if_pos, if_neg, ↓reduceIte, gd_z0, gd_z1, gd_tt, sF_fold, sG_fold, sI_fold, sJ_fold]
  · have := a8 (by lia)
    simp (disch := lia) only [xx2_at, x_by, xx2_at_b36, lt, gd_in, if_pos, if_neg, ↓reduceIte, gd_z0, gd_z1, gd_tt, sF_fold, sG_fold, sI_fold, sJ_fold]
theorem same_lp {N : Nat} {σ : mS} {a b : Int32} (ha : x_sv σ a) (hb : x_sv σ b) (hs : x_sz σ b = x_sz σ a) : ∀ (n : Nat) (i : Int32), 0 ≤ i → i ≤ x_sz σ a → ((x_sz σ a).toInt - i.toInt).toNat < n → (∃ r : Int32, xx2_same_b60 N n a b 1 i σ = some (r, σ) ∧ (r = 1 ∨ r = 0) ∧ (r = 1 ↔ ∀ k, i ≤ k → k < x_sz σ a → x_by σ a k = x_by σ b k)) ∧ xx2_same_b60 N n a b 0 i σ = some (0, σ) := by
  refine loop_up _ (fun n i h0 h1 ih => ?_)
  have hat := @at_x N σ a i ha h0
  have hbt := @at_x N σ b i hb h0
  obtain ⟨a1, a2, a3, a4, a5, a6, a7, a8⟩ := ha
  obtain ⟨b1, b2, b3, b4, b5, b6, b7, b8⟩ := hb
  have e0 : x_sz σ a = sI σ 129 a := rfl
  rw [xx2_same_b60, xx2_same_b60]
  by_cases c : i < x_sz σ a
  · refine ⟨?_, by simp (disch := lia) only [xx2_same_b104, lt, gd_in, if_pos, if_neg, ↓reduceIte, gd_z0, gd_z1, gd_tt, sF_fold, sG_fold, sI_fold, sJ_fold]⟩
    simp (disch := lia) only [xx2_same_b104, xx2_same_b97, lt, gd_in, if_pos, if_neg, ↓reduceIte, gd_z0, gd_z1, gd_tt, sF_fold, sG_fold, sI_fold, sJ_fold, hat c, bd, hbt (by lia)]
    by_cases d : x_by σ a i = x_by σ b i
    · obtain ⟨⟨r, i1, i2, i3⟩, _⟩ := ih c
      refine ⟨r, by rw [if_pos d]; exact i1, i2, i3.trans ⟨fun q k hk hk' => ?_, fun q k hk => q k (by lia)⟩⟩
      by_cases e : k = i
      · rw [e]; exact d
      · exact q k (by lia) hk'
    · exact ⟨0, by rw [if_neg d]; exact (ih c).2, .inr rfl, fun q => absurd q (by decide), fun q => absurd (q i (by lia) c) d⟩
  · refine ⟨⟨1, by simp (disch := lia) only [xx2_same_b104, lt, gd_in, if_pos, if_neg, ↓reduceIte, gd_z0, gd_z1, gd_tt, sF_fold, sG_fold, sI_fold, sJ_fold], .inl rfl, fun _ k hk hk' => by lia, fun _ => rfl⟩, by simp (disch := lia) only [xx2_same_b104, lt, gd_in, if_pos, if_neg, ↓reduceIte, gd_z0, gd_z1, gd_tt, sF_fold, sG_fold, sI_fold, sJ_fold]⟩
/-- equal contents -/
def x_eq (σ : mS) (a b : Int32) : Prop := x_sz σ b = x_sz σ a ∧ ∀ k, 0 ≤ k → k < x_sz σ a → x_by σ a k = x_by σ b k
/-- a row of numbers mixed from s on -/
def hfn (s : Int32) (f : Int32 → Int32) : Nat → Int32
  | 0 => s
  | n + 1 => hfn s f n * 31 + f (Int32.ofNat n)
def hof (s : Int32) (f : Int32 → Int32) (i : Int32) : Int32 := hfn s f i.toNatClampNeg
theorem cl_of {i : Int32} (h : 0 ≤ i) : Int32.ofNat i.toNatClampNeg = i := by
  rw [tI_le] at h
  have h0 : (0 : Int32).toInt = 0 := rfl
  have := tI_rng i
  rw [tI_eq, tI_cl, i_int (by omega)]
  omega
theorem hof_0 {s : Int32} {f : Int32 → Int32} : hof s f 0 = s := rfl
theorem hof_s {s i : Int32} {f : Int32 → Int32} (h : 0 ≤ i) (h' : i < i + 1) : hof s f (i + 1) = hof s f i * 31 + f i := by
  simp only [hof]
  rw [toNat_add h (by decide) (by lia)]
  show hfn s f (i.toNatClampNeg + 1) = _
  rw [hfn, cl_of h]
theorem hof_c {s : Int32} {f g : Int32 → Int32} (m : Int32) : ∀ (n : Nat) (i : Int32), 0 ≤ i → i ≤ m → (m.toInt - i.toInt).toNat < n → (∀ k, 0 ≤ k → k < m → f k = g k) → hof s f i = hof s g i → hof s f m = hof s g m := by
  refine loop_up _ (fun n i h0 h1 ih c e => ?_)
  by_cases h : i < m
  · exact ih h c (by rw [hof_s h0 (by lia), hof_s h0 (by lia), e, c i h0 h])
  · rw [(by lia : m = i), e]
theorem hof_congr {s m : Int32} {f g : Int32 → Int32} (h : 0 ≤ m) (c : ∀ k, 0 ≤ k → k < m → f k = g k) : hof s f m = hof s g m := hof_c m BIG 0 (by lia) h (by have := tI_rng m; have h0 : (0 : Int32).toInt = 0 := rfl; simp only [BIG]; omega) c rfl
def x_hs (σ : mS) (h : Int32) : Prop := sI σ 130 h = hof (x_sz σ h) (x_by σ h) (x_sz σ h)
theorem hs_eq {σ : mS} {a b : Int32} (hv : 0 ≤ x_sz σ a) (ha : x_hs σ a) (hb : x_hs σ b) (e : x_eq σ a b) : sI σ 130 b = sI σ 130 a := by
  rw [ha, hb, e.1]
  exact (hof_congr hv e.2).symm
/-- same: 1 just if the contents are equal; text strings are equal only if they are one -/
theorem same_x {N : Nat} (hN : BIG ≤ N) {σ : mS} {a b : Int32} (ha : x_sv σ a) (hb : x_sv σ b) (h1 : x_hs σ a) (h2 : x_hs σ b) (hd : 12000 ≤ a → 12000 ≤ b → x_eq σ a b → a = b) : ∃ r : Int32, xx2_same N σ a b = some (r, σ) ∧ (r = 1 ∨ r = 0) ∧ (r = 1 ↔ x_eq σ a b) := by
  by_cases c : a = b
  · exact ⟨1, by simp only [xx2_same, if_pos c, gd_z1], .inl rfl, fun _ => by subst c; exact ⟨rfl, fun _ _ _ => rfl⟩, fun _ => rfl⟩
  have lp0 : xx2_same_b60 N N a b 0 0 σ = some (0, σ) := by
    obtain ⟨n, rfl⟩ : ∃ n, N = n + 1 := ⟨N - 1, by simp only [BIG] at hN; omega⟩
    obtain ⟨a1, a2, a3, a4, a5, a6, a7, a8⟩ := ha
    rw [xx2_same_b60]
    by_cases c : sI σ 129 a ≤ 0
    · simp (disch := lia) only [xx2_same_b104, lt, gd_in, if_pos, if_neg, ↓reduceIte, gd_z0, gd_z1, gd_tt, sF_fold, sG_fold, sI_fold, sJ_fold]
    · simp (disch := lia) only [xx2_same_b104, lt, gd_in, if_pos, if_neg, ↓reduceIte, gd_z0, gd_z1, gd_tt, sF_fold, sG_fold, sI_fold, sJ_fold]
  by_cases d : x_sz σ b = x_sz σ a
  · have lp := (same_lp (N := N) ha hb d N 0 (by lia) ha.2.2.2.1 (big_d hN)).1
    by_cases e : sI σ 130 a = sI σ 130 b
    · by_cases t : 12000 ≤ a ∧ 12000 ≤ b
      · refine ⟨0, ?_, .inr rfl, fun q => absurd q (by decide), fun q => absurd (hd t.1 t.2 q) c⟩
        simp only [x_sz] at d
        obtain ⟨t1, t2⟩ := t
        obtain ⟨a1, a2, a3, a4, a5, a6, a7, a8⟩ := ha
        obtain ⟨b1, b2, b3, b4, b5, b6, b7, b8⟩ := hb
        simp (disch := lia) only [xx2_same, xx2_same_b55, xx2_same_b56, lt, gd_in, if_pos, if_neg, ↓reduceIte, gd_z0, gd_z1, gd_tt, sF_fold, sG_fold, sI_fold, sJ_fold]
        exact lp0
      · obtain ⟨r, q1, q2, q3⟩ := lp
        refine ⟨r, ?_, q2, q3.trans ⟨fun q => ⟨d, q⟩, fun q => q.2⟩⟩
        obtain ⟨a1, a2, a3, a4, a5, a6, a7, a8⟩ := ha
        obtain ⟨b1, b2, b3, b4, b5, b6, b7, b8⟩ := hb
        simp only [x_sz] at d
        by_cases u : a < 12000
        · simp (disch := lia) only [xx2_same, xx2_same_b51, xx2_same_b56, lt, gd_in, if_pos, if_neg, ↓reduceIte, gd_z0, gd_z1, gd_tt, sF_fold, sG_fold, sI_fold, sJ_fold]
          exact q1
        · simp (disch := lia) only [xx2_same, xx2_same_b51, xx2_same_b56, lt, gd_in, if_pos, if_neg, ↓reduceIte, gd_z0, gd_z1, gd_tt, sF_fold, sG_fold, sI_fold, sJ_fold]
          exact q1
    · refine ⟨0, ?_, .inr rfl, fun q => absurd q (by decide), fun q => absurd (hs_eq ha.2.2.2.1 h1 h2 q).symm e⟩
      obtain ⟨a1, a2, a3, a4, a5, a6, a7, a8⟩ := ha
      obtain ⟨b1, b2, b3, b4, b5, b6, b7, b8⟩ := hb
      simp only [x_sz] at d
      simp (disch := lia) only [xx2_same, xx2_same_b55, xx2_same_b56, lt, gd_in, if_pos, if_neg, ↓reduceIte, gd_z0, gd_z1, gd_tt, sF_fold, sG_fold, sI_fold, sJ_fold, e]
      exact lp0
  · refine ⟨0, ?_, .inr rfl, fun q => absurd q (by decide), fun q => absurd q.1 d⟩
    obtain ⟨a1, a2, a3, a4, a5, a6, a7, a8⟩ := ha
    obtain ⟨b1, b2, b3, b4, b5, b6, b7, b8⟩ := hb
    simp only [x_sz] at d
    simp (disch := lia) only [xx2_same, xx2_same_b55, xx2_same_b56, lt, gd_in, if_pos, if_neg, ↓reduceIte, gd_z0, gd_z1, gd_tt, sF_fold, sG_fold, sI_fold, sJ_fold]
    exact lp0
