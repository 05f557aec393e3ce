/-! LAYER 2: Coroutines.clear() -/
/-- from place 1 on, each names the next one; 121 places -/
def f_ch1 (f : Nat → Int32) (k i : Nat) : Int32 := if 1 ≤ i ∧ i < k then (if i < 120 then Int32.ofNat (i + 1) else -1) else f i
theorem f_ch1_up (f : Nat → Int32) {k : Nat} (hk : 1 ≤ k) : upd (f_ch1 f k) k (if k < 120 then Int32.ofNat (k + 1) else -1) = f_ch1 f (k + 1) := by
  funext i
  simp only [upd, f_ch1]
  by_cases h : i = k
  · subst h; simp [hk]
  · by_cases h2 : 1 ≤ i ∧ i < k
    · simp [h, h2, show i < k + 1 from by omega]
    · rw [if_neg h, if_neg h2, if_neg (by omega)]
def c5_a (σ : mS) : mS := md_pi (md_pi (md_pi σ 337 1) 338 0) 339 0
def c5_b (σ : mS) : mS := md_ai (md_ai (md_al (c5_a σ) 335 0 0) 323 0 3) 326 0 (-1)
def c5_c (σ : mS) : mS := md_pi (md_pi (md_pi (md_pi (md_pi σ 357 0) 358 0) 361 (-1)) 362 (-1)) 363 0
theorem clear5_in {N : Nat} {σ : mS} {f : Nat → Int32} : ∀ (d k n : Nat), 202 = k + d → d < n → xx5_clear_b71 N n (Int32.ofNat k) (s_row σ 356 (f_chain f 202 k)) = some (c5_c (s_row σ 356 (f_chain f 202 202))) := by
  have e12 : (202 : Int32) = Int32.ofNat 202 := rfl
  intro d
  induction d with
  | zero =>
    intro k n h1 h2
    obtain ⟨n, rfl⟩ := Nat.exists_eq_succ_of_ne_zero (by omega : n ≠ 0)
    rw [xx5_clear_b71, e12, if_pos ((i_le (by omega) (by omega)).mpr (by omega)), show k = 202 from by omega]
    rfl
  | succ d ih =>
    intro k n h1 h2
    obtain ⟨n, rfl⟩ := Nat.exists_eq_succ_of_ne_zero (by omega : n ≠ 0)
    rw [xx5_clear_b71, e12, if_neg (fun h => by have := (i_le (by omega) (by omega)).mp h; omega), i_inc]
    have step : ∀ v : Int32, v = (if k + 1 < 202 then Int32.ofNat (k + 1) else -1) → xx5_clear_b99 N (xx5_clear_b71 N n) (Int32.ofNat k) (Int32.ofNat k) v (s_row σ 356 (f_chain f 202 k)) = some (c5_c (s_row σ 356 (f_chain f 202 202))) := fun v hv => by
      rw [xx5_clear_b99, gd_of (i_in (by omega) (by omega))]
      show xx5_clear_b71 N n (Int32.ofNat k + 1) (md_ai (s_row σ 356 (f_chain f 202 k)) 356 (Int32.ofNat k).toNatClampNeg v) = _
      rw [i_cl (by omega), s_row_ai, hv, f_chain_up, i_inc]
      exact ih (k + 1) n (by omega) (by omega)
    by_cases h3 : 202 ≤ k + 1
    · rw [if_pos ((i_le (by omega) (by omega)).mpr h3)]
      exact step _ (by rw [if_neg (by omega)])
    · rw [if_neg (fun h => h3 ((i_le (by omega) (by omega)).mp h))]
      exact step _ (by rw [if_pos (by omega)])
theorem clear5_mid {N : Nat} (hN : 202 < N) (σ : mS) : xx5_clear_b71 N N 0 σ = some (c5_c (s_row σ 356 (f_chain (σ.2.2.1 356) 202 202))) := by
  have h := clear5_in (N := N) (σ := σ) (f := σ.2.2.1 356) 202 0 N (by omega) hN
  have e0 : s_row σ 356 (f_chain (σ.2.2.1 356) 202 0) = σ := by
    rw [show f_chain (σ.2.2.1 356) 202 0 = σ.2.2.1 356 from funext fun i => by simp [f_chain], s_row_self]
  rw [e0] at h
  exact h
def c5_fin (σ : mS) : mS := c5_c (s_row (c5_b σ) 356 (f_chain ((c5_b σ).2.2.1 356) 202 202))
theorem clear5_out {N : Nat} (hN : 202 < N) {σ : mS} {f : Nat → Int32} : ∀ (d k n : Nat), 121 = k + d → 1 ≤ k → d < n → xx5_clear_b2 N n (Int32.ofNat k) (s_row σ 336 (f_ch1 f k)) = some (c5_fin (s_row σ 336 (f_ch1 f 121))) := by
  have e12 : (120 : Int32) = Int32.ofNat 120 := rfl
  intro d
  induction d with
  | zero =>
    intro k n h1 h0 h2
    obtain ⟨n, rfl⟩ := Nat.exists_eq_succ_of_ne_zero (by omega : n ≠ 0)
    rw [xx5_clear_b2, e12, if_pos ((i_lt (by omega) (by omega)).mpr (by omega)), show k = 121 from by omega]
    show xx5_clear_b71 N N 0 (c5_b (s_row σ 336 (f_ch1 f 121))) = _
    exact clear5_mid hN _
  | succ d ih =>
    intro k n h1 h0 h2
    obtain ⟨n, rfl⟩ := Nat.exists_eq_succ_of_ne_zero (by omega : n ≠ 0)
    rw [xx5_clear_b2, e12, if_neg (fun h => by have := (i_lt (by omega) (by omega)).mp h; omega), i_inc]
    have step : ∀ v : Int32, v = (if k < 120 then Int32.ofNat (k + 1) else -1) → xx5_clear_b26 N (xx5_clear_b2 N n) (Int32.ofNat k) (Int32.ofNat k) v (s_row σ 336 (f_ch1 f k)) = some (c5_fin (s_row σ 336 (f_ch1 f 121))) := fun v hv => by
      rw [xx5_clear_b26, gd_of (i_in (by omega) (by omega))]
      show xx5_clear_b2 N n (Int32.ofNat k + 1) (md_ai (s_row σ 336 (f_ch1 f k)) 336 (Int32.ofNat k).toNatClampNeg v) = _
      rw [i_cl (by omega), s_row_ai, hv, f_ch1_up f h0, i_inc]
      exact ih (k + 1) n (by omega) (by omega) (by omega)
    by_cases h3 : 120 ≤ k
    · rw [if_pos ((i_le (by omega) (by omega)).mpr h3)]
      exact step _ (by rw [if_neg (by omega)])
    · rw [if_neg (fun h => h3 ((i_le (by omega) (by omega)).mp h))]
      exact step _ (by rw [if_pos (by omega)])
def c5_end (σ : mS) : mS := c5_fin (s_row σ 336 (f_ch1 (σ.2.2.1 336) 121))
theorem clear5_eq {N : Nat} (hN : 202 < N) (σ : mS) : xx5_clear N σ = some (c5_end σ) := by
  show xx5_clear_b2 N N 1 σ = _
  have h := clear5_out hN (σ := σ) (f := σ.2.2.1 336) 120 1 N (by omega) (by omega) (by omega)
  have e0 : s_row σ 336 (f_ch1 (σ.2.2.1 336) 1) = σ := by
    rw [show f_ch1 (σ.2.2.1 336) 1 = σ.2.2.1 336 from funext fun i => by rw [f_ch1, if_neg (by omega)], s_row_self]
  rw [e0] at h
  exact h
theorem c_z0_al {σ : mS} {o g i : Nat} {v : Int64} (h : c_z0 σ o) (hg : g / 64 ≠ o) : c_z0 (md_al σ g i v) o := fun g' hg' => by
  have hne : g' ≠ g := fun e => hg (e ▸ hg')
  refine ⟨(h g' hg').1, (h g' hg').2.1, (h g' hg').2.2.1, fun j => ?_⟩
  show va_up σ.2.2.2 g _ g' j = 0
  simp only [va_up, if_neg hne]
  exact (h g' hg').2.2.2 j
theorem c5_keep {σ : mS} {o : Nat} (ho : o ≠ 5) (h : c_z0 σ o) : c_z0 (c5_end σ) o := by
  have hn : (5 : Nat) ≠ o := Ne.symm ho
  have h1 := c_z0_row (f := f_ch1 (σ.2.2.1 336) 121) (j := 336) h hn
  have h2 : c_z0 (c5_b (s_row σ 336 (f_ch1 (σ.2.2.1 336) 121))) o := c_z0_ai (c_z0_ai (c_z0_al (c_z0_pi (c_z0_pi (c_z0_pi h1 hn) hn) hn) hn) hn) hn
  exact c_z0_pi (c_z0_pi (c_z0_pi (c_z0_pi (c_z0_pi (c_z0_row h2 hn) hn) hn) hn) hn) hn
