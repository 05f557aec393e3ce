/-! LAYER 2: the collectors: coroutines on both sides -/
theorem fb_1 {a n : Int32} (h0 : 0 ≤ a) (h1 : a ≤ 2300 * (n - 1)) (n0 : 0 < n) (n1 : n ≤ 200) : a ≤ 459000 ∧ 0 ≤ n - 1 ∧ n - 1 ≤ 200 ∧ n - 1 < n := ⟨by lia, by lia, by lia, by lia⟩
/-- how far a call reaches -/
theorem fl_pl {S : SR} {w : WD} {σ : mS} {ff : Int32 → Nat → Int32} {pt : Int32 → Int32} {pv : Int32 → Int64} {f k : Int32} {ct : CT} (h : SG σ ff pt pv f k ct ∨ SW S w σ ff pt pv f k ct) (h0 : 0 ≤ ff k 5) (h1 : ff k 5 ≤ 459000) : ff k 5 < ct.2.2.2.1 := by
  rcases h with ⟨_, _, _, _, q, _⟩ | ⟨ρ, ⟨_, _, _, _, _, _, c7, c8, _⟩, q, q2, _⟩
  · rw [q]; lia
  · have lb := oN_bd q2
    obtain ⟨_, c7a, c7b⟩ := c7
    rw [q]; lia
theorem FL_all {S : SR} {w : WD} {σ : mS} {ff : Int32 → Nat → Int32} {pt : Int32 → Int32} {pv : Int32 → Int64} {bt : Int32} : ∀ {l : List Int32} {n : Int32} {ct : CT}, FL S w σ ff pt pv bt 0 0 l n ct → n ≤ 200 → 0 ≤ ct.2.2.2.1 ∧ (∀ f, f ∈ l → ∃ k ct', (0 ≤ k ∧ k < n) ∧ (0 ≤ ff k 5 ∧ ff k 5 ≤ 459000) ∧ (SG σ ff pt pv f k ct' ∨ SW S w σ ff pt pv f k ct') ∧ ct'.2.2.2.1 ≤ ct.2.2.2.1) ∧ (∀ k, 0 ≤ k → k < n → ∃ f ct', f ∈ l ∧ (0 ≤ ff k 5 ∧ ff k 5 ≤ 459000) ∧ (SG σ ff pt pv f k ct' ∨ SW S w σ ff pt pv f k ct') ∧ ct'.2.2.2.1 ≤ ct.2.2.2.1) ∧ (∀ i, 0 ≤ i → i < ct.2.2.2.1 → ∃ f k ct', f ∈ l ∧ (0 ≤ k ∧ k < n) ∧ (0 ≤ ff k 5 ∧ ff k 5 ≤ 459000) ∧ ff k 5 ≤ i ∧ i < ct'.2.2.2.1 ∧ (SG σ ff pt pv f k ct' ∨ SW S w σ ff pt pv f k ct'))
  | [], n, ct, h, _ => by
    obtain ⟨h1, h2, _⟩ := h
    rw [h2, h1]
    exact ⟨Int32.le_refl _, fun f hf => absurd hf (by simp), fun k k0 k1 => absurd (Int32.lt_of_le_of_lt k0 k1) Int32.lt_irrefl, fun i i0 i1 => absurd (Int32.lt_of_le_of_lt i0 i1) Int32.lt_irrefl⟩
  | f :: l, n, ct, h, hn => by
    obtain ⟨h1, ⟨h2, h2'⟩, h3, h4⟩ := h
    rw [show (0 : Int32) + 2300 * (n - 1 - 0) = 2300 * (n - 1) from by lia] at h2'
    obtain ⟨b1, b2, b3, b4⟩ := fb_1 h2 h2' h1 hn
    have pl := fl_pl h3 h2 b1
    obtain ⟨i0, i1, i2, i3⟩ := FL_all h4 b3
    have ec : (ctO σ ff f (n - 1)).2.2.2.1 = ff (n - 1) 5 := rfl
    rw [ec] at i0 i1 i2 i3
    have le' := Int32.le_of_lt pl
    refine ⟨Int32.le_trans i0 le', fun g hg => ?_, fun k k0 k1 => ?_, fun i j0 j1 => ?_⟩
    · rcases List.mem_cons.mp hg with rfl | hg
      · exact ⟨n - 1, ct, ⟨b2, b4⟩, ⟨h2, b1⟩, h3, Int32.le_refl _⟩
      · obtain ⟨k, ct', ⟨q1, q2⟩, q3, q4, q5⟩ := i1 g hg
        exact ⟨k, ct', ⟨q1, Int32.lt_trans q2 b4⟩, q3, q4, Int32.le_trans q5 le'⟩
    · by_cases ck : k = n - 1
      · subst ck
        exact ⟨f, ct, List.mem_cons_self, ⟨h2, b1⟩, h3, Int32.le_refl _⟩
      · obtain ⟨g, ct', q1, q2, q3, q4⟩ := i2 k k0 (by clear i1 i2 i3 h4 h3; lia)
        exact ⟨g, ct', List.mem_cons_of_mem _ q1, q2, q3, Int32.le_trans q4 le'⟩
    · by_cases ci : ff (n - 1) 5 ≤ i
      · exact ⟨f, n - 1, ct, List.mem_cons_self, ⟨b2, b4⟩, ⟨h2, b1⟩, ci, j1, h3⟩
      · obtain ⟨g, k, ct', q1, ⟨q2, q3⟩, q4, q5, q6, q7⟩ := i3 i j0 (Int32.not_le.mp ci)
        exact ⟨g, k, ct', List.mem_cons_of_mem _ q1, ⟨q2, Int32.lt_trans q3 b4⟩, q4, q5, q6, q7⟩
/-- what can be come to from a call of a script's function -/
def frx (σ : mS) (f : Int32) (y : OB2) : Prop := y = (3, sI σ 343 f) ∨ (∃ k, 0 ≤ k ∧ k < sI σ 353 f ∧ rfx (xt σ f k) (xv σ f k) y) ∨ (∃ k, 0 ≤ k ∧ k < sI σ 348 f ∧ rfx (xt σ f (sI σ 261 (sI σ 344 f) + k)) (xv σ f (sI σ 261 (sI σ 344 f) + k)) y)
theorem sw_1 {a b c k : Int32} (h : a = b + 1 + c) (b0 : 0 ≤ b) (b1 : b ≤ 459000) (c0 : 0 ≤ c) (c1 : c ≤ 100) (k0 : 0 ≤ k) (k1 : k < c) : b ≤ b + 1 + k ∧ b + 1 + k < a := ⟨by lia, by lia⟩
theorem sw_2 {a b c n i : Int32} (h : a = b + 1 + c) (b0 : 0 ≤ b) (b1 : b ≤ 459000) (c0 : 0 ≤ c) (c1 : c ≤ 100) (n0 : 0 ≤ n) (n1 : n ≤ 2000) (i0 : b ≤ i) (i1 : i < a + n) : i = b ∨ (∃ k, 0 ≤ k ∧ k < c ∧ i = b + 1 + k) ∨ (∃ k, 0 ≤ k ∧ k < n ∧ i = a + k) := by
  by_cases h1 : i = b
  · exact .inl h1
  · by_cases h2 : i < a
    · exact .inr (.inl ⟨i - b - 1, by lia, by lia, by lia⟩)
    · exact .inr (.inr ⟨i - a, by lia, by lia, by lia⟩)
theorem SW_rf {S : SR} {w : WD} (P : PRK w) {σ : mS} {ff : Int32 → Nat → Int32} {pt : Int32 → Int32} {pv : Int32 → Int64} {f k : Int32} {ct : CT} (h : SW S w σ ff pt pv f k ct) (h0 : 0 ≤ ff k 5) (h1 : ff k 5 ≤ 459000) : (∀ y, frx σ f y → ∃ y', PR w y y' ∧ (rfm 5 (Int32.toInt64 (ff k 1)) y' ∨ ∃ i, ff k 5 ≤ i ∧ i < ct.2.2.2.1 ∧ rfm (pt i) (pv i) y')) ∧ (∀ y', rfm 5 (Int32.toInt64 (ff k 1)) y' → ∃ y, frx σ f y ∧ PR w y y') ∧ (∀ i, ff k 5 ≤ i → i < ct.2.2.2.1 → ∀ y', rfm (pt i) (pv i) y' → ∃ y, frx σ f y ∧ PR w y y') := by
  obtain ⟨ρ, FCx, hpl, hl, _, _, LVx⟩ := h
  obtain ⟨c1, c2, c3, c4, c5, c6, c7, c8, c9, c10, c11, c12, c13⟩ := FCx
  have pf := P.2.2.2.1 _ _ c4
  have r5 : ∀ y', rfm 5 (Int32.toInt64 (ff k 1)) y' ↔ y' = (3, ff k 1) := fun y' => by
    refine ⟨fun hy => ?_, fun hy => .inr (.inr (.inl ⟨rfl, by rw [hy, i32_64], by rw [i32_64]; exact pf.2.1⟩))⟩
    rcases hy with ⟨e, _⟩ | ⟨e, _⟩ | ⟨_, e, _⟩ | ⟨e, _⟩ | ⟨e, _⟩
    · exact absurd e (by decide)
    · exact absurd e (by decide)
    · rw [e, i32_64]
    · exact absurd e (by decide)
    · exact absurd e (by decide)
  have pr3 : PR w (3, sI σ 343 f) (3, ff k 1) := .inr (.inr (.inl ⟨rfl, rfl, c4⟩))
  have lb := oN_bd hl
  have fnP : ∀ y', rfm 5 (Int32.toInt64 (ff k 1)) y' → ∃ y, frx σ f y ∧ PR w y y' := fun y' hy => ⟨(3, sI σ 343 f), .inl rfl, by rw [(r5 y').mp hy]; exact pr3⟩
  have cc : 0 ≤ ff k 4 := c7.2.1
  have plc : ct.2.2.2.1 = ff k 5 + 1 + ff k 4 + Int32.ofNat ρ.length := by rw [hpl, c8]
  have vv := RG_rng' (Int32.le_of_lt c9.2.1) (Int32.le_trans c9.2.2 (by decide)) (Int32.le_trans c7.2.2 (by decide)) c11
  refine ⟨fun y hy => ?_, fnP, fun i j0 j1 y' hy => ?_⟩
  · rcases hy with rfl | ⟨r, r0, r1, hy⟩ | ⟨r, r0, r1, hy⟩
    · exact ⟨(3, ff k 1), pr3, .inl ((r5 _).mpr rfl)⟩
    · rcases LVx.2.2 r r0 r1 with hm | hz
      · obtain ⟨x, hx, rfl⟩ := List.mem_map.mp hm
        obtain ⟨j, hj, ej⟩ := List.getElem_of_mem hx
        have rv := RG_at c10 hj
        rw [List.getD_eq_getElem?_getD, List.getElem?_eq_getElem hj, Option.getD_some, ej] at rv
        obtain ⟨y', q1, q2⟩ := (RV_rf P rv).1 r0 y hy
        have lj := oN_lt2 hj hl
        refine ⟨y', q2, .inr ⟨ff k 3 + Int32.ofNat j, ?_, ?_, q1⟩⟩
        · rw [c8]
          clear LVx c10 c11 vv fnP hy rv
          have h100 := c7.2.2
          lia
        · rw [hpl, c8]
          clear LVx c10 c11 vv fnP hy rv
          have h100 := c7.2.2
          lia
      · rw [hz] at hy
        rcases rfx_n hy with e | e | e | e | e <;> exact absurd e (by decide)
    · have r1' : r < ff k 4 := by rw [← c7.1]; exact r1
      obtain ⟨y', q1, q2⟩ := (VV_rf P (vv r r0 r1')).1 y hy
      have b := sw_1 c8 h0 h1 cc c7.2.2 r0 r1'
      refine ⟨y', q2, .inr ⟨ff k 5 + 1 + r, b.1, ?_, q1⟩⟩
      refine Int32.lt_of_lt_of_le b.2 ?_
      rw [hpl, c8]
      clear LVx c10 c11 vv fnP hy
      have h100 := c7.2.2
      lia
  · rw [hpl] at j1
    rcases sw_2 c8 h0 h1 cc c7.2.2 lb.1 lb.2 j0 j1 with rfl | ⟨r, r0, r1, rfl⟩ | ⟨r, r0, r1, rfl⟩
    · rw [c12, c13] at hy
      exact fnP y' hy
    · obtain ⟨y, q1, q2⟩ := (VV_rf P (vv r r0 r1)).2 y' hy
      exact ⟨y, .inr (.inr ⟨r, r0, by rw [c7.1]; exact r1, q1⟩), q2⟩
    · have hj : r.toNatClampNeg < ρ.length := by
        have e := oN_cl' r0
        rw [← e, oN_lt (by rw [tI_cl]; have := tI_rng r; omega) (by omega)] at r1
        exact r1
      have rv := RG_at c10 hj
      rw [oN_cl' r0] at rv
      obtain ⟨d0, y, q1, q2⟩ := (RV_rf P rv).2 y' hy
      exact ⟨y, .inr (.inl ⟨_, d0, LVx.1 _ (i_rho hj), q1⟩), q2⟩
theorem SG_rf {σ : mS} {ff : Int32 → Nat → Int32} {pt : Int32 → Int32} {pv : Int32 → Int64} {f k : Int32} {ct : CT} (h : SG σ ff pt pv f k ct) (h0 : 0 ≤ ff k 5) (h1 : ff k 5 ≤ 459000) : ∀ i, ff k 5 ≤ i → i < ct.2.2.2.1 → ∀ y', ¬ rfm (pt i) (pv i) y' := by
  obtain ⟨_, _, _, _, q, _, _, q5, o, o0, o1, q6⟩ := h
  intro i i0 i1 y' hy
  rw [q] at i1
  have e : i = ff k 5 := by lia
  rw [e, q5, q6] at hy
  rcases hy with ⟨e, _⟩ | ⟨e, _⟩ | ⟨_, _, e⟩ | ⟨e, _⟩ | ⟨e, _⟩
  · exact absurd e (by decide)
  · exact absurd e (by decide)
  · rw [i32_64] at e
    exact absurd (Int32.lt_of_lt_of_le o1 (Int32.le_trans (by decide) e)) Int32.lt_irrefl
  · exact absurd e (by decide)
  · exact absurd e (by decide)
theorem kff_0 {μ : mS} {d k : Int32} : kff μ d k 0 = sI μ 176 (sI μ 165 d + 10 * k) ∧ kff μ d k 1 = sI μ 176 (sI μ 165 d + 10 * k + 1) := by
  refine ⟨?_, rfl⟩
  show sI μ 176 (sI μ 165 d + 10 * k + 0) = _
  rw [Int32.add_zero]
/-- coroutines -/
theorem ed_C {S : SR} {w : WD} (P : PRK w) {σ μ : mS} {es es' xf : Int32 → List Int32} {c d : Int32} (hs : sI σ 323 c = sI μ 156 d) (ck : cKd S w xf σ μ c d) : (∀ y, edx σ es xf (5, c) y → ∃ y', edm μ es' (5, d) y' ∧ PR w y y') ∧ (∀ y', edm μ es' (5, d) y' → ∃ y, edx σ es xf (5, c) y ∧ PR w y y') := by
  have edm5 : ∀ y, edm μ es' (5, d) y → sI μ 156 d = 0 ∧ ((sI μ 159 d = 0 ∧ rfm 5 (Int32.toInt64 (sI μ 158 d)) y) ∨ (∃ k, 0 ≤ k ∧ k < sI μ 164 d ∧ rfm (kpt μ d k) (kpv μ d k) y) ∨ (∃ k, 0 ≤ k ∧ k < sI μ 166 d ∧ sI μ 176 (sI μ 165 d + 10 * k) = 0 ∧ rfm 5 (Int32.toInt64 (sI μ 176 (sI μ 165 d + 10 * k + 1))) y)) := fun y hy => by
    rcases hy with ⟨h, _⟩ | ⟨h, _⟩ | ⟨h, _⟩ | ⟨_, h⟩
    · exact absurd (show (5 : Nat) = 2 from h) (by decide)
    · exact absurd (show (5 : Nat) = 3 from h) (by decide)
    · exact absurd (show (5 : Nat) = 4 from h) (by decide)
    · exact h
  have nx0 : ∀ v y, ¬ rfx 0 v y := fun v y hy => by
    rcases rfx_n hy with e | e | e | e | e <;> exact absurd e (by decide)
  rcases ck with ⟨a1, a2, a3, a4, a5⟩ | ⟨a1, a2, a3, a4, a5, a6, a7⟩ | ⟨a1, a2, a3, a4, a5, a6, a7⟩
  · refine ⟨fun y hy => ?_, fun y hy => ?_⟩
    · rcases edx_5 hy with h | ⟨f, hf, _⟩
      · rw [a3] at h; exact absurd h (nx0 _ _)
      · rw [a2] at hf; exact absurd hf (by simp)
    · have := (edm5 y hy).1
      rw [← hs, a1] at this
      exact absurd this (by decide)
  · have z : sI μ 156 d = 0 := by rw [← hs]; exact a1
    have V := VV_rf P a5
    refine ⟨fun y hy => ?_, fun y hy => ?_⟩
    · rcases edx_5 hy with h | ⟨f, hf, _⟩
      · rw [a3] at h
        obtain ⟨y', q1, q2⟩ := V.1 y h
        exact ⟨y', .inr (.inr (.inr ⟨rfl, z, .inl ⟨a4, q1⟩⟩)), q2⟩
      · rw [a2] at hf; exact absurd hf (by simp)
    · rcases (edm5 y hy).2 with ⟨_, h⟩ | ⟨k, k0, k1, _⟩ | ⟨k, k0, k1, _⟩
      · obtain ⟨y', q1, q2⟩ := V.2 y h
        refine ⟨y', .inr (.inr (.inr ⟨rfl, .inl ?_⟩)), q2⟩
        show rfx (sI σ 324 c) (sJ σ 325 c) y'
        rw [a3]; exact q1
      · rw [a7] at k1; exact absurd (Int32.lt_of_le_of_lt k0 k1) Int32.lt_irrefl
      · rw [a6] at k1; exact absurd (Int32.lt_of_le_of_lt k0 k1) Int32.lt_irrefl
  · have z : sI μ 156 d = 0 := by rw [← hs]; exact a1
    obtain ⟨_, i1, i2, i3⟩ := FL_all a4 a7
    have pl : ((sI σ 332 c, sI σ 333 c, sI σ 334 c, sI μ 167 d, sI μ 168 d, sI μ 169 d) : CT).2.2.2.1 = sI μ 164 d := a5
    rw [pl] at i1 i2 i3
    refine ⟨fun y hy => ?_, fun y hy => ?_⟩
    · rcases edx_5 hy with h | ⟨f, hf, h355, h⟩
      · rw [a2] at h; exact absurd h (nx0 _ _)
      · obtain ⟨k, ct', ⟨k0, k1⟩, ⟨b0, b1⟩, sw, le'⟩ := i1 f hf
        rcases sw with sg | sw
        · exact absurd (h355.symm.trans sg.2.1) (by decide)
        · obtain ⟨y', q1, q2⟩ := (SW_rf P sw b0 b1).1 y h
          obtain ⟨ρ, fc, _⟩ := sw
          have z0 : kff μ d k 0 = 0 := fc.2.2.1
          refine ⟨y', .inr (.inr (.inr ⟨rfl, z, .inr ?_⟩)), q1⟩
          rcases q2 with q2 | ⟨i, j0, j1, q2⟩
          · refine .inr ⟨k, k0, k1, ?_, ?_⟩
            · show sI μ 176 (sI μ 165 d + 10 * k) = 0
              rw [← kff_0.1]; exact z0
            · show rfm 5 (Int32.toInt64 (sI μ 176 (sI μ 165 d + 10 * k + 1))) y'
              rw [← kff_0.2]; exact q2
          · exact .inl ⟨i, Int32.le_trans b0 j0, Int32.lt_of_lt_of_le j1 le', q2⟩
    · rcases (edm5 y hy).2 with ⟨h9, _⟩ | ⟨i, j0, j1, h⟩ | ⟨k, k0, k1, h0, h⟩
      · rw [a3] at h9; exact absurd h9 (by decide)
      · obtain ⟨f, k, ct', hf, _, ⟨b0, b1⟩, q1, q2, sw⟩ := i3 i j0 j1
        rcases sw with sg | sw
        · exact absurd h (SG_rf sg b0 b1 i q1 q2 y)
        · obtain ⟨y', r1, r2⟩ := (SW_rf P sw b0 b1).2.2 i q1 q2 y h
          have h355 : sI σ 355 f = 0 := by obtain ⟨ρ, fc, _⟩ := sw; exact fc.2.1
          exact ⟨y', .inr (.inr (.inr ⟨rfl, .inr ⟨f, hf, h355, r1⟩⟩)), r2⟩
      · obtain ⟨f, ct', hf, ⟨b0, b1⟩, sw, _⟩ := i2 k k0 k1
        rcases sw with sg | sw
        · have : kff μ d k 0 = 1 := sg.2.2.2.1
          rw [kff_0.1, h0] at this
          exact absurd this (by decide)
        · rw [← kff_0.2] at h
          obtain ⟨y', r1, r2⟩ := (SW_rf P sw b0 b1).2.1 y h
          have h355 : sI σ 355 f = 0 := by obtain ⟨ρ, fc, _⟩ := sw; exact fc.2.1
          exact ⟨y', .inr (.inr (.inr ⟨rfl, .inr ⟨f, hf, h355, r1⟩⟩)), r2⟩
