/-! LAYER 2: the two sides: strings are made -/
theorem sm_eq {σ τ : mS} {a b : Int32} (ha : x_sm σ τ a) (hb : x_sm σ τ b) : x_eq τ a b ↔ x_eq σ a b := by
  obtain ⟨_, a2, _, a4⟩ := ha
  obtain ⟨_, b2, _, b4⟩ := hb
  simp only [x_eq, x_sz, a2, b2]
  constructor
  · rintro ⟨q1, q2⟩
    refine ⟨q1, fun k k0 k1 => ?_⟩
    rw [← a4 k k0 k1, ← b4 k k0 (by rw [q1]; exact k1)]; exact q2 k k0 k1
  · rintro ⟨q1, q2⟩
    refine ⟨q1, fun k k0 k1 => ?_⟩
    rw [a4 k k0 k1, b4 k k0 (by rw [q1]; exact k1)]; exact q2 k k0 k1
theorem msm_eq {σ τ : mS} {a b : Int32} (ha : m_sm σ τ a) (hb : m_sm σ τ b) : m_eq τ a b ↔ m_eq σ a b := by
  obtain ⟨_, a2, _, a4⟩ := ha
  obtain ⟨_, b2, _, b4⟩ := hb
  simp only [m_eq, m_sz, a2, b2]
  constructor
  · rintro ⟨q1, q2⟩
    refine ⟨q1, fun k k0 k1 => ?_⟩
    rw [← a4 k k0 k1, ← b4 k k0 (by rw [q1]; exact k1)]; exact q2 k k0 k1
  · rintro ⟨q1, q2⟩
    refine ⟨q1, fun k k0 k1 => ?_⟩
    rw [a4 k k0 k1, b4 k k0 (by rw [q1]; exact k1)]; exact q2 k k0 k1
/-- the strings' fields of the system, and of the reference -/
def sK (k : Nat) : Bool := (k / 64 == 2) && (k != 142)
theorem sK_f {k : Nat} (h : k / 64 ≠ 2 ∨ k = 142) : sK k = false := by
  simp only [sK, Bool.and_eq_false_iff, beq_eq_false_iff_ne, bne_eq_false_iff_eq]
  omega
def sN (k : Nat) : Bool := [2, 3, 4, 5, 6, 7, 8, 9, 10, 12, 13, 15].contains k
theorem FX_sm {σ τ : mS} {ts : List Int32} {es ps : Int32 → List Int32} (fr : m_fr sK σ τ) (hT : sF σ 134 ≤ sF τ 134) (hs : ∀ t, t ∈ ts → ∀ e, e ∈ es t → sI σ 212 e = 4 → x_sm σ τ (sJ σ 213 e).toInt32) (H : FX σ ts es ps) : FX τ ts es ps := by
  have i1 : ∀ m, sI τ 212 m = sI σ 212 m := fun m => mf_I fr rfl
  have i2 : ∀ m, sJ τ 213 m = sJ σ 213 m := fun m => mf_J fr rfl
  have i3 : ∀ m, sI τ 216 m = sI σ 216 m := fun m => mf_I fr rfl
  have i4 : sI τ 218 = sI σ 218 := by funext m; exact mf_I fr rfl
  have i5 : ∀ m, sI τ 221 m = sI σ 221 m := fun m => mf_I fr rfl
  obtain ⟨H1, H2, H3⟩ := H
  have pe : ∀ t, t ∈ ts → ∀ e, e ∈ es t → pilf τ (sI τ 216 e) (sI τ 212 e) (sJ τ 213 e) = pilf σ (sI σ 216 e) (sI σ 212 e) (sJ σ 213 e) := fun t ht e he => by
    simp only [pilf, i1, i2, i3]
    by_cases c : sI σ 212 e = 4
    · rw [if_pos c, if_pos c, (hs t ht e he c).2.2.1]
    · rw [if_neg c, if_neg c]
  refine ⟨fun t ht e he => ?_, fun p p0 p1 => ?_, fun t ht e e' he he' k => ?_⟩
  · obtain ⟨a, b, c, d1, d2, d3, d4⟩ := H1 t ht e he
    rw [i1, i2, i3]
    refine ⟨a, b, c, d1, d2, d3, fun q => ?_⟩
    have s := hs t ht e he q
    obtain ⟨g1, g2, g3⟩ := d4 q
    exact ⟨sm_sv s g1, sm_hs s g1.2.2.2.1 g2, fun z => by have := g3 z; lia⟩
  · obtain ⟨u1, u2, u3⟩ := H2 p p0 p1
    rw [i4, i5]
    refine ⟨u1, u2, fun e => (u3 e).trans ⟨?_, ?_⟩⟩
    · rintro ⟨⟨t, t1, t2⟩, t3⟩
      exact ⟨⟨t, t1, t2⟩, by rw [pe t t1 e t2]; exact t3⟩
    · rintro ⟨⟨t, t1, t2⟩, t3⟩
      rw [pe t t1 e t2] at t3
      exact ⟨⟨t, t1, t2⟩, t3⟩
  · refine H3 t ht e e' he he' ?_
    rw [i1, i2, i1, i2] at k
    obtain ⟨k1, k2⟩ := k
    refine ⟨k1, ?_⟩
    by_cases c : sI σ 212 e = 4
    · rw [if_pos c] at k2 ⊢
      exact (sm_eq (hs t ht e he c) (hs t ht e' he' (k1 ▸ c))).mp k2
    · rw [if_neg c] at k2 ⊢; exact k2
theorem FM_sm {σ τ : mS} {ts : List Int32} {es ps : Int32 → List Int32} (fr : m_fr sN σ τ) (hs : ∀ t, t ∈ ts → ∀ e, e ∈ es t → sI σ 32 e = 3 → m_sm σ τ (sJ σ 33 e).toInt32) (H : FM σ ts es ps) : FM τ ts es ps := by
  have i1 : ∀ m, sI τ 32 m = sI σ 32 m := fun m => mf_I fr rfl
  have i2 : ∀ m, sJ τ 33 m = sJ σ 33 m := fun m => mf_J fr rfl
  have i3 : ∀ m, sI τ 31 m = sI σ 31 m := fun m => mf_I fr rfl
  have i4 : ∀ m, sI τ 37 m = sI σ 37 m := fun m => mf_I fr rfl
  have i5 : ∀ m, sI τ 38 m = sI σ 38 m := fun m => mf_I fr rfl
  obtain ⟨H1, H2, H3⟩ := H
  have pe : ∀ t, t ∈ ts → ∀ e, e ∈ es t → chf τ (sI τ 31 e) (sI τ 32 e) (sJ τ 33 e) = chf σ (sI σ 31 e) (sI σ 32 e) (sJ σ 33 e) := fun t ht e he => by
    simp only [chf, i1, i2, i3]
    by_cases c : sI σ 32 e = 3
    · rw [if_pos c, if_pos c, (hs t ht e he c).2.2.1]
    · rw [if_neg c, if_neg c]
  refine ⟨fun t ht e he => ?_, fun p p0 p1 => ?_, fun t ht e e' he he' k => ?_⟩
  · obtain ⟨a, b, c, d1, d2, d4⟩ := H1 t ht e he
    rw [i1, i2, i3]
    refine ⟨a, b, c, d1, d2, fun q => ?_⟩
    have s := hs t ht e he q
    obtain ⟨g1, g2⟩ := d4 q
    exact ⟨msm_sv s g1, msm_hs s g1.2.2.2.1 g2⟩
  · obtain ⟨u1, u2, u3⟩ := H2 p p0 p1
    simp only [i4, i5]
    refine ⟨u1, u2, fun e => (u3 e).trans ⟨?_, ?_⟩⟩
    · rintro ⟨⟨t, t1, t2⟩, t3⟩
      exact ⟨⟨t, t1, t2⟩, by rw [pe t t1 e t2]; exact t3⟩
    · rintro ⟨⟨t, t1, t2⟩, t3⟩
      rw [pe t t1 e t2] at t3
      exact ⟨⟨t, t1, t2⟩, t3⟩
  · refine H3 t ht e e' he he' ?_
    rw [i1, i2, i1, i2] at k
    obtain ⟨k1, k2⟩ := k
    refine ⟨k1, ?_⟩
    by_cases c : sI σ 32 e = 3
    · rw [if_pos c] at k2 ⊢
      exact (msm_eq (hs t ht e he c) (hs t ht e' he' (k1 ▸ c))).mp k2
    · rw [if_neg c] at k2 ⊢; exact k2
theorem VV_str {w : WD} {tx tm : Int32} {vx vm : Int64} (v : VV w tx vx tm vm) (h : tx = 4 ∨ tm = 3) : (vx.toInt32, vm.toInt32) ∈ wS w ∨ (vx.toInt32, vm.toInt32) ∈ wX w := by
  rcases v with v | v | v | v | ⟨_, _, a, b, v3, v4, v5⟩ | v | v | v | v
  all_goals try (obtain ⟨r, r', _⟩ := v; rw [r, r'] at h; rcases h with h | h <;> exact absurd h (by decide))
  rw [v3, v4, h_ll, h_ll]; exact v5
/-- tables stay alike while strings come -/
theorem RT_sm {w w' : WD} {σ μ τ τm : mS} {es es' : Int32 → List Int32} (R : RT w σ μ es es') (wl : wle w w') (wt : wT w' = wT w) (fr : m_fr sK σ τ) (frm : m_fr sN μ τm) (hT : sF σ 134 ≤ sF τ 134) (hs : ∀ a b, (a, b) ∈ wS w ∨ (a, b) ∈ wX w → x_sm σ τ a ∧ m_sm μ τm b) : RT w' τ τm es es' := by
  obtain ⟨⟨ps, hs', ff, fh, M⟩, ⟨ft, T⟩, ⟨ps', MM'⟩, T', E⟩ := R
  have tx : tX w' = tX w := by simp only [tX, wt]
  have tm : tM w' = tM w := by simp only [tM, wt]
  have kx : ∀ t, t ∈ tX w → ∀ e, e ∈ es t → sI σ 212 e = 4 → x_sm σ τ (sJ σ 213 e).toInt32 := fun t ht e he q => by
    obtain ⟨⟨a, b⟩, h1, rfl⟩ := List.mem_map.mp ht
    obtain ⟨y, y1, y2⟩ := F2_l (E a b h1).1 e he
    exact (hs _ _ (VV_str y2.1 (.inl q))).1
  have km : ∀ t, t ∈ tM w → ∀ e, e ∈ es' t → sI μ 32 e = 3 → m_sm μ τm (sJ μ 33 e).toInt32 := fun t ht e he q => by
    obtain ⟨⟨a, b⟩, h1, rfl⟩ := List.mem_map.mp ht
    obtain ⟨y, y1, y2⟩ := F2_r (E a b h1).1 e he
    exact (hs _ _ (VV_str y2.1 (.inr q))).2
  simp only [RT]
  rw [tx, tm, wt]
  refine ⟨⟨ps, hs', ff, fh, FX_sm fr hT kx M.1, mf_HS fr ⟨rfl, rfl, rfl, rfl, rfl, rfl, rfl, rfl, rfl⟩ M.2.1, fun t ht => mf_HB fr rfl rfl rfl rfl (mf_I fr rfl) (M.2.2.1 t ht), mf_EX fr ⟨rfl, rfl, rfl, rfl, rfl, rfl, rfl, rfl⟩ M.2.2.2⟩, ⟨ft, ?_⟩, ⟨ps', FM_sm frm km MM'.1, fun t ht => ?_, mf_EM frm ⟨rfl, rfl, rfl, rfl, rfl, rfl, rfl, rfl, rfl⟩ MM'.2.2⟩, ?_, fun a b hab => ⟨?_, ?_, ?_⟩⟩
  · have i209 : sI τ 209 = sI σ 209 := by funext m; exact mf_I fr rfl
    simp only [FT, i209, mf_F fr (show sK 210 = false from rfl), mf_F fr (show sK 211 = false from rfl)]; exact T
  · have h := MM'.2.1 t ht
    have imh : mh τm t = mh μ t := by funext i; exact mf_I frm rfl
    simp only [HM] at h ⊢
    rw [mf_I frm rfl, mf_I frm rfl, imh]
    exact hm_mv (fun k => mf_mlv frm rfl rfl rfl) h
  · have i28 : sI τm 28 = sI μ 28 := by funext m; exact mf_I frm rfl
    simp only [FTm, i28, mf_F frm (show sN 29 = false from rfl), mf_F frm (show sN 30 = false from rfl)]; exact T'
  · refine F2_mono (E a b hab).1 (fun x y _ _ r => ?_)
    obtain ⟨r1, r2, r3, r4⟩ := r
    refine ⟨?_, ?_, by rw [mf_I fr rfl]; exact r3, by rw [mf_I fr rfl]; exact r4⟩
    · rw [mf_I fr rfl, mf_J fr rfl, mf_I frm rfl, mf_J frm rfl]; exact VV_mono wl r1
    · rw [mf_I fr rfl, mf_J fr rfl, mf_I frm rfl, mf_J frm rfl]; exact VV_mono wl r2
  · rw [mf_I fr rfl, mf_I frm rfl]; exact (E a b hab).2.1
  · rw [mf_J fr rfl, mf_I frm rfl]; exact (E a b hab).2.2
