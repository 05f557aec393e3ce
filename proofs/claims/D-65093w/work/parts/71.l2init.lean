/-! LAYER 2: the system's clear() methods, what they leave -/
theorem c_z0_pi {σ : mS} {o g : Nat} {v : Int32} (h : c_z0 σ o) (hg : g / 64 ≠ o) : c_z0 (md_pi σ g v) o := fun g' hg' => by
  have hne : g' ≠ g := fun e => hg (e ▸ hg')
  refine ⟨?_, (h g' hg').2.1, (h g' hg').2.2.1, (h g' hg').2.2.2⟩
  show upd σ.1 g v g' = 0
  simp only [upd, if_neg hne]
  exact (h g' hg').1
theorem c_z0_pl {σ : mS} {o g : Nat} {v : Int64} (h : c_z0 σ o) (hg : g / 64 ≠ o) : c_z0 (md_pl σ g v) o := fun g' hg' => by
  have hne : g' ≠ g := fun e => hg (e ▸ hg')
  refine ⟨(h g' hg').1, ?_, (h g' hg').2.2.1, (h g' hg').2.2.2⟩
  show vp_updL σ.2.1 g v g' = 0
  simp only [vp_updL, if_neg hne]
  exact (h g' hg').2.1
theorem c_z0_row {σ : mS} {o j : Nat} {f : Nat → Int32} (h : c_z0 σ o) (hg : j / 64 ≠ o) : c_z0 (s_row σ j f) o := fun g' hg' => by
  have hne : g' ≠ j := fun e => hg (e ▸ hg')
  refine ⟨(h g' hg').1, (h g' hg').2.1, fun i => ?_, (h g' hg').2.2.2⟩
  show va_up σ.2.2.1 j f g' i = 0
  simp only [va_up, if_neg hne]
  exact (h g' hg').2.2.1 i
theorem clear2_loop {N : Nat} {σ : mS} {f : Nat → Int32} : ∀ (d k n : Nat), 12000 = k + d → d < n → xx2_clear_b27 N n (Int32.ofNat k) (s_row σ 136 (f_chain f 12000 k)) = some (s_row σ 136 (f_chain f 12000 12000)) := by
  have e12 : (12000 : Int32) = Int32.ofNat 12000 := rfl
  intro d
  induction d with
  | zero =>
    intro k n h1 h2
    obtain ⟨n, rfl⟩ := Nat.exists_eq_succ_of_ne_zero (by omega : n ≠ 0)
    rw [xx2_clear_b27, e12, if_pos ((i_le (by omega) (by omega)).mpr (by omega)), show k = 12000 from by omega]
  | succ d ih =>
    intro k n h1 h2
    obtain ⟨n, rfl⟩ := Nat.exists_eq_succ_of_ne_zero (by omega : n ≠ 0)
    rw [xx2_clear_b27, e12, if_neg (fun h => by have := (i_le (by omega) (by omega)).mp h; omega), i_inc]
    have step : ∀ v : Int32, v = (if k + 1 < 12000 then Int32.ofNat (k + 1) else -1) → xx2_clear_b55 N (xx2_clear_b27 N n) (Int32.ofNat k) (Int32.ofNat k) v (s_row σ 136 (f_chain f 12000 k)) = some (s_row σ 136 (f_chain f 12000 12000)) := fun v hv => by
      rw [xx2_clear_b55, gd_of (i_in (by omega) (by omega))]
      show xx2_clear_b27 N n (Int32.ofNat k + 1) (md_ai (s_row σ 136 (f_chain f 12000 k)) 136 (Int32.ofNat k).toNatClampNeg v) = _
      rw [i_cl (by omega), s_row_ai, hv, f_chain_up, i_inc]
      exact ih (k + 1) n (by omega) (by omega)
    by_cases h3 : 12000 ≤ k + 1
    · rw [if_pos ((i_le (by omega) (by omega)).mpr h3)]
      exact step _ (by rw [if_neg (by omega)])
    · rw [if_neg (fun h => h3 ((i_le (by omega) (by omega)).mp h))]
      exact step _ (by rw [if_pos (by omega)])
def c2_mid (σ : mS) : mS := md_pi (md_pi (md_pi (md_pi (md_pi σ 137 (-1)) 138 (-1)) 140 0) 141 0) 139 0
def c2_end (σ : mS) : mS := s_row (c2_mid σ) 136 (f_chain (σ.2.2.1 136) 12000 12000)
theorem clear2_eq {N : Nat} (hN : 12000 < N) (σ : mS) : xx2_clear N σ = some (c2_end σ) := by
  show xx2_clear_b27 N N 0 (c2_mid σ) = _
  have h := clear2_loop (N := N) (σ := c2_mid σ) (f := σ.2.2.1 136) 12000 0 N (by omega) hN
  have e0 : s_row (c2_mid σ) 136 (f_chain (σ.2.2.1 136) 12000 0) = c2_mid σ := by
    rw [show f_chain (σ.2.2.1 136) 12000 0 = (c2_mid σ).2.2.1 136 from funext fun i => by simp [f_chain, c2_mid, md_pi], s_row_self]
  rw [e0] at h
  exact h
theorem c2_keep {σ : mS} {o : Nat} (ho : o ≠ 2) (h : c_z0 σ o) : c_z0 (c2_end σ) o := c_z0_row (c_z0_pi (c_z0_pi (c_z0_pi (c_z0_pi (c_z0_pi h (Ne.symm ho)) (Ne.symm ho)) (Ne.symm ho)) (Ne.symm ho)) (Ne.symm ho)) (Ne.symm ho)
theorem x_aB_i {j n : Nat} (h : x_a j 3 n) : x_aB 3 j = true := by
  simp only [x_aB, Bool.and_eq_true, decide_eq_true_eq, List.contains_iff_mem]
  exact ⟨⟨h.1, h.2.1⟩, h.2.2.1⟩
def c3_mid (σ : mS) : mS := md_pi (md_pi (md_pi (md_pi (md_pi (md_pi (md_pi (md_pi (md_pi (md_pi (md_pi (md_pl σ 194 1) 211 0) 220 0) 230 0) 232 0) 237 0) 210 0) 219 0) 229 0) 236 0) 227 (-1)) 228 (-1)
def c3_row (σ : mS) (j n : Nat) : mS := s_row σ j (f_chain (σ.2.2.1 j) n n)
def c3_end (σ : mS) : mS :=
  let τ := md_pi (c3_row (c3_row (c3_row (c3_row (c3_row (c3_mid σ) 209 3000) 217 20000) 226 4000) 235 12000) 205 24000) 207 0
  s_row τ 221 (f_fill (τ.2.2.1 221) (-1) 32768)
theorem chain_of {N j n : Nat} {σ : mS} (h : x_a j 3 n) (hl : n + 1 < 2 ^ 31) (hN : n < N) : xx3_chain N σ j = some (c3_row σ j n) := by
  have h4 := h.2.2.2
  have := chain_eq (N := N) (σ := σ) (x_aB_i h) (by rw [h4]; exact hl) (by rw [h4]; exact hN)
  rw [h4] at this
  exact this
theorem fill_of {N j n : Nat} {v : Int32} {σ : mS} (h : x_a j 3 n) (hl : n < 2 ^ 31) (hN : n < N) : xj3_fill N σ j v = some (s_row σ j (f_fill (σ.2.2.1 j) v n)) := by
  have h4 := h.2.2.2
  have := fill_eq (N := N) (σ := σ) (v := v) (x_aB_i h) (by rw [h4]; exact hl) (by rw [h4]; exact hN)
  rw [h4] at this
  exact this
theorem clear3_eq {N : Nat} (hN : 40000 < N) (σ : mS) : xx3_clear N σ = some (c3_end σ) := by
  show bd (xx3_chain N (c3_mid σ) 209) _ = _
  rw [chain_of xa_209 (by decide) (by omega), bd_some, chain_of xa_217 (by decide) (by omega), bd_some, chain_of xa_226 (by decide) (by omega), bd_some, chain_of xa_235 (by decide) (by omega), bd_some, chain_of xa_205 (by decide) (by omega), bd_some]
  show bd (xj3_fill N _ 221 (-1)) _ = _
  rw [fill_of xa_221 (by decide) (by omega), bd_some]
  rfl
theorem c3_keep {σ : mS} {o : Nat} (ho : o ≠ 3) (h : c_z0 σ o) : c_z0 (c3_end σ) o := by
  have hn : (3 : Nat) ≠ o := Ne.symm ho
  refine c_z0_row (c_z0_pi (c_z0_row (c_z0_row (c_z0_row (c_z0_row (c_z0_row ?_ hn) hn) hn) hn) hn) hn) hn
  exact c_z0_pi (c_z0_pi (c_z0_pi (c_z0_pi (c_z0_pi (c_z0_pi (c_z0_pi (c_z0_pi (c_z0_pi (c_z0_pi (c_z0_pi (c_z0_pl h hn) hn) hn) hn) hn) hn) hn) hn) hn) hn) hn) hn
