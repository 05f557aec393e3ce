/-! LAYER 2: the reference's collector: functions, boxes, coroutines, together -/
def soK (k : Nat) : Bool := [46, 47, 48, 49, 50, 51, 52, 55, 56, 57, 155, 164, 166, 170, 171, 301].contains k
/-- rows and fields behind the change of the two rows -/
theorem sw_I {σ : mS} {w k1 k2 k : Nat} {i : Int32} (h1 : k ≠ k1) (h2 : k ≠ k2) : sI (md_sw w k1 k2 σ) k i = sI σ k i := by
  simp only [sI, md_sw, va_up, if_neg h1, if_neg h2]
theorem sw_F {σ : mS} {w k1 k2 k : Nat} (h : k ≠ w) : sF (md_sw w k1 k2 σ) k = sF σ k := by
  simp only [sF, md_sw, upd, if_neg h]
theorem sww_1 {σ : mS} {w k1 k2 : Nat} {i : Int32} (h : k1 ≠ k2) : sI (md_sw w k1 k2 σ) k1 i = sI σ k2 i := by
  simp only [sI, md_sw, va_up, if_neg h, if_true]
theorem sw_fr {P : Nat → Bool} {σ τ : mS} {w k1 k2 : Nat} (fr : m_fr P σ τ) (h0 : P w = true) (h1 : P k1 = true) (h2 : P k2 = true) : m_fr P σ (md_sw w k1 k2 τ) := by
  refine ⟨fun k hk => ?_, fun k hk => fr.2.1 k hk, fun k hk => ?_, fun k hk => fr.2.2.2 k hk⟩
  · have : k ≠ w := fun q => by rw [q, h0] at hk; exact absurd hk (by decide)
    show upd τ.1 w _ k = _
    rw [upd_at, if_neg this]
    exact fr.1 k hk
  · have q1 : k ≠ k1 := fun q => by rw [q, h1] at hk; exact absurd hk (by decide)
    have q2 : k ≠ k2 := fun q => by rw [q, h2] at hk; exact absurd hk (by decide)
    show va_up (va_up τ.2.2.1 k1 _) k2 _ k = _
    simp only [va_up, if_neg q1, if_neg q2]
    exact fr.2.2.1 k hk
theorem DN_mk {σ : mS} {mf : Nat} {p M : Int32} {Mk U : List Int32} (D : DN σ mf p M (-1) Mk U) (p0 : 0 ≤ p) (M1 : M ≤ 32768) (b : Int32) : b ∈ Mk ↔ ∃ k, 0 ≤ k ∧ k < M ∧ b = p + k ∧ sI σ mf k = 1 := by
  have n0 : ∀ k, (-1 : Int32) < k ↔ 0 ≤ k := fun k => ⟨fun h => by lia, fun h => by lia⟩
  refine ⟨fun hb => ?_, fun ⟨k, k0, k1, q, hk⟩ => ?_⟩
  · obtain ⟨k, q1, q2, q3, q4⟩ := D.2.2.2.1 b hb
    exact ⟨k, (n0 k).mp q1, q2, q3, q4⟩
  · rw [q]
    exact (D.2.1 k ((n0 k).mpr k0) k1).mp hk
theorem FS_e {a b : Int32 → Int32} {c d M p : Int32} {o : List Int32} (h : FS b d M p o) (e1 : ∀ i, a i = b i) (e2 : c = d) : FS a c M p o := by
  have : a = b := funext e1
  rw [this, e2]
  exact h
theorem sweepO_m {N : Nat} (hN : BIG ≤ N) {σ : mS} {o : List Int32} (hf : ∀ b, b ∈ o → (0 ≤ sI σ 46 b ∧ sI σ 46 b ≤ 12000) ∧ (0 ≤ capN σ b ∧ capN σ b ≤ 12000) ∧ sI σ 46 b + capN σ b ≤ 12000 ∧ sI σ 45 b < 9000) (ho : ∀ k, 0 ≤ k → k < 4000 → sI σ 234 k = 1 → 64 + k ∈ o) (hm : ∀ k, 0 ≤ k → k < 4000 → sI σ 234 k = 0 ∨ sI σ 234 k = 1) (hs : ∀ l : List Int32, l.Nodup → (∀ x, x ∈ l → x ∈ o) → cps σ l ≤ 12000) (hm5 : ∀ k, 0 ≤ k → k < 12000 → sI σ 235 k = 0 ∨ sI σ 235 k = 1) (b1 : 0 ≤ sF σ 171 ∧ sF σ 171 ≤ 120) (b2 : 0 ≤ sF σ 155 ∧ sF σ 155 ≤ 1000) (b3 : ∀ d, 0 ≤ d → d < 120 → sI σ 170 d ≠ 0 → 0 ≤ sI σ 166 d ∧ sI σ 166 d ≤ 500) : ∃ υ Mf Mb D, mm_sweepOthers N σ = some υ ∧ CM υ Mf ∧ (∀ b, b ∈ Mf ↔ ∃ k, 0 ≤ k ∧ k < 4000 ∧ b = 64 + k ∧ sI σ 234 k = 1) ∧ (sF υ 52).toInt = cps σ Mf ∧ (∀ b, b ∈ Mf → 0 ≤ sI υ 46 b ∧ sI υ 46 b ≤ 12000 ∧ sI υ 46 b + capN σ b ≤ sF υ 52 ∧ ∀ k, 0 ≤ k → k < capN σ b → sI υ 50 (sI υ 46 b + k) = sI σ 50 (sI σ 46 b + k)) ∧ BM υ Mb ∧ (∀ b, b ∈ Mb ↔ 0 ≤ b ∧ b < 12000 ∧ sI σ 235 b = 1) ∧ D.Nodup ∧ (∀ d, d ∈ D ↔ 0 ≤ d ∧ d < 120 ∧ sI σ 170 d ≠ 0 ∧ sI σ 236 d = 0) ∧ (∀ d, 0 ≤ d → sI υ 170 d = if d ∈ D then 0 else sI σ 170 d) ∧ (∀ d, 0 ≤ d → sI υ 166 d = if d ∈ D then 0 else sI σ 166 d) ∧ (∀ d, 0 ≤ d → sI υ 164 d = if d ∈ D then 0 else sI σ 164 d) ∧ (sF υ 171).toInt = (sF σ 171).toInt - D.length ∧ (sF υ 155).toInt = (sF σ 155).toInt - k166 σ D ∧ m_fr soK σ υ := by
  have S0 : SOI σ (md_pi (md_pi σ 49 0) 48 0) 3999 0 [] [] := by
    refine ⟨?_, ⟨by simp only [sF_pi, sF_pl, sF_ai, sF_al, sG_pi, sG_pl, sG_ai, sG_al, sI_pi, sI_pl, sI_al, sI_ai1, sI_ai2, sJ_pi, sJ_pl, sJ_ai, sJ_al1, sJ_al2, Nat.reduceEqDiff, if_true, if_false, ne_eq, not_false_eq_true, ite_true, ite_false]; rfl, fun j hj => absurd hj (by simp)⟩, ⟨by decide, by decide, rfl⟩, mf_pi (mf_pi mf_rfl rfl) rfl, fun b _ _ => by simp only [sF_pi, sF_pl, sF_ai, sF_al, sG_pi, sG_pl, sG_ai, sG_al, sI_pi, sI_pl, sI_al, sI_ai1, sI_ai2, sJ_pi, sJ_pl, sJ_ai, sJ_al1, sJ_al2, Nat.reduceEqDiff, if_true, if_false, ne_eq, not_false_eq_true, ite_true, ite_false], fun b hb => absurd hb (by simp), by simp only [sF_pi, sF_pl, sF_ai, sF_al, sG_pi, sG_pl, sG_ai, sG_al, sI_pi, sI_pl, sI_al, sI_ai1, sI_ai2, sJ_pi, sJ_pl, sJ_ai, sJ_al1, sJ_al2, Nat.reduceEqDiff, if_true, if_false, ne_eq, not_false_eq_true, ite_true, ite_false]; rfl⟩
    exact DN_0 (M := 4000) (by decide) (by decide)
  have NB' : 20000 < N := by simp only [BIG] at hN; omega
  obtain ⟨τ, T, Mf, U, e, S⟩ := so16 hN hf ho hm hs N 3999 0 _ [] [] S0 (by
    have : (3999 : Int32).toInt = 3999 := rfl
    omega)
  obtain ⟨D, F, ⟨T0, T1, hT⟩, fr, s2, s3, s4⟩ := S
  have ul := DN_len D (by decide)
  have fs := DN_FS D F (by decide) (by decide) (by decide) (by decide)
  have mk := DN_mk D (by decide) (by decide)
  have fr1 : m_fr soK σ (md_pi (md_pi (md_pi (md_sw 301 50 51 τ) 52 T) 57 0) 56 0) := mf_pi (mf_pi (mf_pi (sw_fr (mf_mono fr (fun k hk => by simp only [soK, List.contains_cons, List.contains_nil, Bool.or_eq_false_iff, beq_eq_false_iff_ne] at hk; simp only [soF, List.contains_cons, List.contains_nil, Bool.or_eq_false_iff, beq_eq_false_iff_ne]; (repeat' (first | exact trivial | omega | apply And.intro)))) rfl rfl rfl) rfl) rfl) rfl
  have q1 : ∀ k i, k ≠ 50 → k ≠ 51 → sI (md_pi (md_pi (md_pi (md_sw 301 50 51 τ) 52 T) 57 0) 56 0) k i = sI τ k i := fun k i h1 h2 => by rw [sI_pi, sI_pi, sI_pi, sw_I h1 h2]
  have q50 : ∀ i, sI (md_pi (md_pi (md_pi (md_sw 301 50 51 τ) 52 T) 57 0) 56 0) 50 i = sI τ 51 i := fun i => by rw [sI_pi, sI_pi, sI_pi, sww_1 (by decide)]
  have qF : ∀ k, k ≠ 52 → k ≠ 56 → k ≠ 57 → k ≠ 301 → sF (md_pi (md_pi (md_pi (md_sw 301 50 51 τ) 52 T) 57 0) 56 0) k = sF τ k := fun k h1 h2 h3 h4 => by rw [sF_pi, if_neg h2, sF_pi, if_neg h3, sF_pi, if_neg h1, sw_F h4]
  have q52 : sF (md_pi (md_pi (md_pi (md_sw 301 50 51 τ) 52 T) 57 0) 56 0) 52 = T := by rw [sF_pi, if_neg (by decide), sF_pi, if_neg (by decide), sF_pi, if_pos rfl]
  have q56 : sF (md_pi (md_pi (md_pi (md_sw 301 50 51 τ) 52 T) 57 0) 56 0) 56 = 0 := by rw [sF_pi, if_pos rfl]
  have q57 : sF (md_pi (md_pi (md_pi (md_sw 301 50 51 τ) 52 T) 57 0) 56 0) 57 = 0 := by rw [sF_pi, if_neg (by decide), sF_pi, if_pos rfl]
  rw [soB] at e
  generalize md_pi (md_pi (md_pi (md_sw 301 50 51 τ) 52 T) 57 0) 56 0 = τ1 at *
  have r235 : ∀ k, sI τ1 235 k = sI σ 235 k := fun k => by rw [q1 235 k (by decide) (by decide)]; exact mf_I fr rfl
  obtain ⟨τ2, Mb, U2, e2, D2, F2', fr2, t4⟩ := bx187 (N := N) (σ := τ1) (fun k k0 k1 => by rw [r235]; exact hm5 k k0 k1) N 11999 τ1 [] [] ⟨DN_0 (M := 12000) (by decide) (by decide), ⟨by rw [q56]; rfl, fun j hj => absurd hj (by simp)⟩, mf_rfl, by rw [q57]; rfl⟩ (by
    have : (11999 : Int32).toInt = 11999 := rfl
    omega)
  have ul2 := DN_len D2 (by decide)
  have fs2 := DN_FS D2 F2' (by decide) (by decide) (by decide) (by decide)
  have mk2 := DN_mk D2 (by decide) (by decide)
  have fr12 : m_fr soK σ τ2 := mf_tr fr1 (mf_mono fr2 (fun k hk => by simp only [soK, List.contains_cons, List.contains_nil, Bool.or_eq_false_iff, beq_eq_false_iff_ne] at hk; simp only [bxF, List.contains_cons, List.contains_nil, Bool.or_eq_false_iff, beq_eq_false_iff_ne]; (repeat' (first | exact trivial | omega | apply And.intro))))
  have f171 : sF τ2 171 = sF σ 171 := by rw [mf_F fr2 (k := 171) rfl, qF 171 (by decide) (by decide) (by decide) (by decide)]; exact mf_F fr rfl
  have f155 : sF τ2 155 = sF σ 155 := by rw [mf_F fr2 (k := 155) rfl, qF 155 (by decide) (by decide) (by decide) (by decide)]; exact mf_F fr rfl
  have iT : ∀ k i, k = 164 ∨ k = 166 ∨ k = 170 ∨ k = 236 → sI τ2 k i = sI σ k i := fun k i h => by
    rcases h with rfl | rfl | rfl | rfl <;> (rw [mf_I fr2 rfl, q1 _ i (by decide) (by decide)]; exact mf_I fr rfl)
  obtain ⟨υ, Dd, e3, a1, a2, a3, a4, a5, a6, a7, a8⟩ := th241 (N := N) (σ := τ2) (by rw [f171]; exact b1) (by rw [f155]; exact b2) (fun d d0 d1 h => by
    rw [iT 166 d (by decide)]
    rw [iT 170 d (by decide)] at h
    exact b3 d d0 d1 h) N 0 τ2 [] ⟨mf_rfl, fun d _ => by rw [if_neg (by simp)], fun d _ => by rw [if_neg (by simp)], fun d _ => by rw [if_neg (by simp)], by simp, fun d => ⟨fun h => absurd h (by simp), fun ⟨h1, h2, _⟩ => absurd (Int32.lt_of_le_of_lt h1 h2) Int32.lt_irrefl⟩, by simp, by simp [k166]⟩ (by decide) (by decide) (by
      have : (0 : Int32).toInt = 0 := rfl
      omega)
  have iU : ∀ k i, thF k = false → bxF k = false → k ≠ 50 → k ≠ 51 → sI υ k i = sI τ k i := fun k i h1 h2 h3 h4 => by rw [mf_I a1 h1, mf_I fr2 h2, q1 k i h3 h4]
  have fU' : ∀ k, thF k = false → bxF k = false → k ≠ 52 → k ≠ 301 → sF υ k = sF τ k := fun k h1 h2 h3 h4 => by
    rw [mf_F a1 h1, mf_F fr2 h2]
    refine qF k h3 ?_ ?_ h4 <;> (intro q; rw [q] at h2; exact absurd h2 (by decide))
  have u50 : ∀ i, sI υ 50 i = sI τ 51 i := fun i => by rw [mf_I a1 rfl, mf_I fr2 rfl, q50]
  have u52 : sF υ 52 = T := by rw [mf_F a1 rfl, mf_F fr2 rfl, q52]
  refine ⟨υ, Mf, Mb, Dd, ?_, ⟨FS_e fs (fun i => iU 47 i rfl rfl (by decide) (by decide)) (fU' 48 rfl rfl (by decide) (by decide)), ?_, by rw [u52]; exact T0, by rw [u52]; exact T1⟩, mk, by rw [u52]; exact hT, fun b hb => ?_, ⟨FS_e fs2 (fun i => mf_I a1 rfl) (mf_F a1 rfl), ?_⟩, fun b => ?_, a5, fun d => ?_, fun d d0 => ?_, fun d d0 => ?_, fun d d0 => ?_, by rw [a7, f171], ?_, mf_tr fr12 (mf_mono a1 (fun k hk => by simp only [soK, List.contains_cons, List.contains_nil, Bool.or_eq_false_iff, beq_eq_false_iff_ne] at hk; simp only [thF, List.contains_cons, List.contains_nil, Bool.or_eq_false_iff, beq_eq_false_iff_ne]; (repeat' (first | exact trivial | omega | apply And.intro))))⟩
  · rw [← e3, ← e2, ← e]
    rfl
  · rw [fU' 49 rfl rfl (by decide) (by decide), s4, tI_lit (by omega)]
  · rw [iU 46 b rfl rfl (by decide) (by decide), u52]
    obtain ⟨c1, c2, c3, c4⟩ := s3 b hb
    exact ⟨c1, c2, c3, fun k k0 k1 => by rw [u50]; exact c4 k k0 k1⟩
  · rw [mf_F a1 rfl, t4, tI_lit (by omega)]
  · rw [mk2 b]
    refine ⟨fun ⟨k, k0, k1, q, hk⟩ => ?_, fun ⟨h0, h1, h2⟩ => ⟨b, h0, h1, (Int32.zero_add b).symm, by rw [r235]; exact h2⟩⟩
    rw [Int32.zero_add] at q
    rw [q]
    exact ⟨k0, k1, by rw [← r235]; exact hk⟩
  · rw [a6 d, iT 170 d (by decide), iT 236 d (by decide)]
  · rw [a2 d d0, iT 170 d (by decide)]
  · rw [a3 d d0, iT 166 d (by decide)]
  · rw [a4 d d0, iT 164 d (by decide)]
  · rw [a8, f155]
    have : k166 τ2 Dd = k166 σ Dd := by
      simp only [k166]
      congr 1
      apply List.map_congr_left
      intro x _
      rw [iT 166 x (by decide)]
    rw [this]
