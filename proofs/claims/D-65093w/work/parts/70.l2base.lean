/-! LAYER 2: small facts of numbers; states -/
theorem i_cl {a : Nat} (ha : a < 2 ^ 31) : (Int32.ofNat a).toNatClampNeg = a := clamp_of rfl ha
theorem i_int {a : Nat} (ha : a < 2 ^ 31) : (Int32.ofNat a).toInt = (a : Int) := toInt_of rfl ha
theorem i_le {a b : Nat} (ha : a < 2 ^ 31) (hb : b < 2 ^ 31) : (Int32.ofNat a ≤ Int32.ofNat b) ↔ a ≤ b := by
  rw [Int32.le_iff_toInt_le, i_int ha, i_int hb]; omega
theorem i_lt {a b : Nat} (ha : a < 2 ^ 31) (hb : b < 2 ^ 31) : (Int32.ofNat a < Int32.ofNat b) ↔ a < b := by
  rw [Int32.lt_iff_toInt_lt, i_int ha, i_int hb]; omega
theorem i_in {a n : Nat} (ha : a < 2 ^ 31) (h : a < n) : inB (Int32.ofNat a) n = true := by
  simp only [inB, Bool.and_eq_true, decide_eq_true_eq, i_int ha]; omega
theorem i_inc (a : Nat) : Int32.ofNat a + 1 = Int32.ofNat (a + 1) := (inc_ofNat a).symm
theorem gd_of {α : Type} {b : Bool} {k : Option α} (h : b = true) : gd b k = k := by rw [h]; rfl
theorem s_ext {a b : mS} (h1 : ∀ k, a.1 k = b.1 k) (h2 : ∀ k, a.2.1 k = b.2.1 k) (h3 : ∀ k i, a.2.2.1 k i = b.2.2.1 k i) (h4 : ∀ k i, a.2.2.2 k i = b.2.2.2 k i) : a = b := by
  obtain ⟨a1, a2, a3, a4⟩ := a
  obtain ⟨b1, b2, b3, b4⟩ := b
  have e1 : a1 = b1 := funext h1
  have e2 : a2 = b2 := funext h2
  have e3 : a3 = b3 := funext fun k => funext (h3 k)
  have e4 : a4 = b4 := funext fun k => funext (h4 k)
  rw [e1, e2, e3, e4]
/-- the row j of σ with f in its place -/
def s_row (σ : mS) (j : Nat) (f : Nat → Int32) : mS := (σ.1, σ.2.1, va_up σ.2.2.1 j f, σ.2.2.2)
theorem s_row_ai {σ : mS} {j i : Nat} {f : Nat → Int32} {v : Int32} : md_ai (s_row σ j f) j i v = s_row σ j (upd f i v) := by
  refine s_ext (fun k => rfl) (fun k => rfl) (fun k x => ?_) (fun k x => rfl)
  show va_up (va_up σ.2.2.1 j f) j (upd (va_up σ.2.2.1 j f j) i v) k x = va_up σ.2.2.1 j (upd f i v) k x
  by_cases h : k = j
  · subst h; simp [va_up]
  · simp [va_up, h]
theorem s_row_self (σ : mS) (j : Nat) : s_row σ j (σ.2.2.1 j) = σ := by
  refine s_ext (fun k => rfl) (fun k => rfl) (fun k x => ?_) (fun k x => rfl)
  show va_up σ.2.2.1 j (σ.2.2.1 j) k x = σ.2.2.1 k x
  by_cases h : k = j
  · subst h; simp [va_up]
  · simp [va_up, h]
/-- Arrays.fill(int[], int): the first k places hold v -/
def f_fill (f : Nat → Int32) (v : Int32) (k i : Nat) : Int32 := if i < k then v else f i
theorem f_fill_up (f : Nat → Int32) (v : Int32) (k : Nat) : upd (f_fill f v k) k v = f_fill f v (k + 1) := by
  funext i
  simp only [upd, f_fill]
  by_cases h : i = k
  · subst h; simp
  · by_cases h2 : i < k
    · simp [h, h2, show i < k + 1 from by omega]
    · simp [h, h2, show ¬ i < k + 1 from by omega]
theorem fill_loop {N j : Nat} {v : Int32} {σ : mS} {f : Nat → Int32} (hj : x_aB 3 j = true) (hl : x_ln j < 2 ^ 31) : ∀ (d k n : Nat), x_ln j = k + d → d < n → xj3_fill_b5 N n j v (Int32.ofNat k) (Int32.ofNat (x_ln j)) (s_row σ j (f_fill f v k)) = some (s_row σ j (f_fill f v (x_ln j))) := by
  intro d
  induction d with
  | zero =>
    intro k n h1 h2
    obtain ⟨n, rfl⟩ := Nat.exists_eq_succ_of_ne_zero (by omega : n ≠ 0)
    rw [xj3_fill_b5, if_pos ((i_le hl (by omega)).mpr (by omega)), show k = x_ln j from by omega]
  | succ d ih =>
    intro k n h1 h2
    obtain ⟨n, rfl⟩ := Nat.exists_eq_succ_of_ne_zero (by omega : n ≠ 0)
    rw [xj3_fill_b5, if_neg (fun h => by have := (i_le hl (by omega)).mp h; omega), gd_of hj, gd_of (i_in (by omega) (by omega))]
    show xj3_fill_b5 N n j v (Int32.ofNat k + 1) _ (md_ai (s_row σ j (f_fill f v k)) j (Int32.ofNat k).toNatClampNeg v) = _
    rw [i_cl (by omega), s_row_ai, f_fill_up, i_inc]
    exact ih (k + 1) n (by omega) (by omega)
theorem fill_eq {N j : Nat} {v : Int32} {σ : mS} (hj : x_aB 3 j = true) (hl : x_ln j < 2 ^ 31) (hN : x_ln j < N) : xj3_fill N σ j v = some (s_row σ j (f_fill (σ.2.2.1 j) v (x_ln j))) := by
  rw [xj3_fill, gd_of hj]
  show xj3_fill_b5 N N j v 0 (Int32.ofNat (x_ln j)) σ = _
  have h := fill_loop (N := N) (v := v) (σ := σ) (f := σ.2.2.1 j) hj hl (x_ln j) 0 N (by omega) hN
  have e0 : s_row σ j (f_fill (σ.2.2.1 j) v 0) = σ := by
    rw [show f_fill (σ.2.2.1 j) v 0 = σ.2.2.1 j from funext fun i => by simp [f_fill], s_row_self]
  rw [e0] at h
  exact h
/-- Memory.chain: each place names the next one -/
def f_chain (f : Nat → Int32) (len k i : Nat) : Int32 := if i < k then (if i + 1 < len then Int32.ofNat (i + 1) else -1) else f i
theorem f_chain_up (f : Nat → Int32) (len k : Nat) : upd (f_chain f len k) k (if k + 1 < len then Int32.ofNat (k + 1) else -1) = f_chain f len (k + 1) := by
  funext i
  simp only [upd, f_chain]
  by_cases h : i = k
  · subst h; simp
  · by_cases h2 : i < k
    · simp [h, h2, show i < k + 1 from by omega]
    · simp [h, h2, show ¬ i < k + 1 from by omega]
theorem chain_loop {N j : Nat} {σ : mS} {f : Nat → Int32} (hj : x_aB 3 j = true) (hl : x_ln j + 1 < 2 ^ 31) : ∀ (d k n : Nat), x_ln j = k + d → d < n → xx3_chain_b2 N n j (Int32.ofNat k) (s_row σ j (f_chain f (x_ln j) k)) = some (s_row σ j (f_chain f (x_ln j) (x_ln j))) := by
  intro d
  induction d with
  | zero =>
    intro k n h1 h2
    obtain ⟨n, rfl⟩ := Nat.exists_eq_succ_of_ne_zero (by omega : n ≠ 0)
    rw [xx3_chain_b2, gd_of hj, if_pos ((i_le (by omega) (by omega)).mpr (by omega)), show k = x_ln j from by omega]
  | succ d ih =>
    intro k n h1 h2
    obtain ⟨n, rfl⟩ := Nat.exists_eq_succ_of_ne_zero (by omega : n ≠ 0)
    rw [xx3_chain_b2, gd_of hj, if_neg (fun h => by have := (i_le (by omega) (by omega)).mp h; omega), gd_of hj, i_inc]
    have step : ∀ v : Int32, v = (if k + 1 < x_ln j then Int32.ofNat (k + 1) else -1) → xx3_chain_b25 N (xx3_chain_b2 N n) j (Int32.ofNat k) j (Int32.ofNat k) v (s_row σ j (f_chain f (x_ln j) k)) = some (s_row σ j (f_chain f (x_ln j) (x_ln j))) := fun v hv => by
      rw [xx3_chain_b25, gd_of hj, gd_of (i_in (by omega) (by omega))]
      show xx3_chain_b2 N n j (Int32.ofNat k + 1) (md_ai (s_row σ j (f_chain f (x_ln j) k)) j (Int32.ofNat k).toNatClampNeg v) = _
      rw [i_cl (by omega), s_row_ai, hv, f_chain_up, i_inc]
      exact ih (k + 1) n (by omega) (by omega)
    by_cases h3 : x_ln j ≤ k + 1
    · rw [if_pos ((i_le (by omega) (by omega)).mpr h3)]
      exact step _ (by rw [if_neg (by omega)])
    · rw [if_neg (fun h => h3 ((i_le (by omega) (by omega)).mp h))]
      exact step _ (by rw [if_pos (by omega)])
theorem chain_eq {N j : Nat} {σ : mS} (hj : x_aB 3 j = true) (hl : x_ln j + 1 < 2 ^ 31) (hN : x_ln j < N) : xx3_chain N σ j = some (s_row σ j (f_chain (σ.2.2.1 j) (x_ln j) (x_ln j))) := by
  rw [xx3_chain]
  have h := chain_loop (N := N) (σ := σ) (f := σ.2.2.1 j) hj hl (x_ln j) 0 N (by omega) hN
  have e0 : s_row σ j (f_chain (σ.2.2.1 j) (x_ln j) 0) = σ := by
    rw [show f_chain (σ.2.2.1 j) (x_ln j) 0 = σ.2.2.1 j from funext fun i => by simp [f_chain], s_row_self]
  rw [e0] at h
  exact h
