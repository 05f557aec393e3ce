/-! LAYER 2: lay, whole -/
def lwK (k : Nat) : Bool := lyK k || [164, 166].contains k
theorem lwK_f {k : Nat} (h : (k < 163 ∨ 177 < k) ∨ (166 < k ∧ k < 173)) : lwK k = false := by
  simp only [lwK, List.contains_cons, List.contains_nil, Bool.or_eq_false_iff, beq_eq_false_iff_ne]
  refine ⟨lyK_f (by omega), ?_⟩
  (repeat' (first | exact trivial | omega | apply And.intro))
/-- what is kept, with one more -/
def KLx (μ : mS) (W : Int32 → Prop) : Prop := (0 ≤ sF μ 175 ∧ sF μ 175 ≤ 500000) ∧ (0 ≤ sF μ 177 ∧ sF μ 177 ≤ 5000) ∧ (∀ d, W d → KLw (sI μ 163 d) (sI μ 164 d) (sI μ 165 d) (sI μ 166 d) (sF μ 175) (sF μ 177)) ∧ (∀ d e, W d → W e → d ≠ e → KLd (sI μ 163 d) (sI μ 164 d) (sI μ 165 d) (sI μ 166 d) (sI μ 163 e) (sI μ 164 e) (sI μ 165 e) (sI μ 166 e))
theorem ly_a {q n q' : Int32} (q0 : 0 ≤ q) (n0 : 0 ≤ n) (n1 : n ≤ 500000) (q1 : q ≤ 500000) (h : q + n ≤ 500000) (h' : q' ≤ q) : q' ≤ q + n := by lia
theorem ly_b {q n : Int32} (q0 : 0 ≤ q) (n0 : 0 ≤ n) (n1 : n ≤ 500000) (q1 : q ≤ 500000) (h : ¬ (500000 < q + n)) : q + n ≤ 500000 ∧ 0 ≤ q + n := ⟨by lia, by lia⟩
theorem ly_c {q n : Int32} {S : Int} (q0 : 0 ≤ q) (n0 : 0 ≤ n) (hq : q.toInt ≤ S) (h : S + n.toInt ≤ 500000) : q + n ≤ 500000 := by
  rw [tI_le] at q0 n0 ⊢
  have z0 : (0 : Int32).toInt = 0 := rfl
  have z1 : (500000 : Int32).toInt = 500000 := rfl
  rw [tI_add (by omega) (by omega)]; omega
theorem ly_d {r n : Int32} {S : Int} (r0 : 0 ≤ r) (n0 : 0 ≤ n) (n1 : n ≤ 500) (hr : r.toInt ≤ 10 * S) (h : 10 * S + 10 * n.toInt ≤ 5000) : r + 10 * n ≤ 5000 := by
  have t := ten_1 n0 n1
  rw [tI_le] at r0 ⊢
  have z0 : (0 : Int32).toInt = 0 := rfl
  have z1 : (5000 : Int32).toInt = 5000 := rfl
  have n0' := n0
  rw [tI_le] at n0'
  rw [tI_add (by omega) (by omega), t.2.2.2]; omega
theorem ly_e {r n r' : Int32} (r0 : 0 ≤ r) (n0 : 0 ≤ n) (n1 : n ≤ 500) (r1 : r ≤ 5000) (h : r + 10 * n ≤ 5000) (h' : r' ≤ r) : r' ≤ r + 10 * n := by lia
theorem ky_2 {r s y R : Int32} {s10 : Int32} (s1 : s ≤ 500) (r0 : 0 ≤ r) (r1 : r ≤ 5000) (t0 : 0 ≤ s10) (t1 : s10 ≤ 5000) (y0 : 0 ≤ y) (y1 : y < s10) (h : r + s10 ≤ R) (R1 : R ≤ 5000) : 0 ≤ r + y ∧ r + y < R := ⟨by lia, by lia⟩
theorem ky_3 {a s i T : Int32} (a0 : 0 ≤ a) (a1 : a ≤ 500000) (s0 : 0 ≤ s) (s1 : s ≤ 500000) (i0 : 0 ≤ i) (i1 : i < s) (h : a + s ≤ T) (T1 : T ≤ 500000) : 0 ≤ a + i ∧ a + i < T := ⟨by lia, by lia⟩
theorem lay75_m {N : Nat} (hN : BIG ≤ N) {τ : mS} {W : Int32 → Prop} {to wn th d b k0 n m many : Int32} (d0 : 0 ≤ d) (d1 : d < 120) (e0 : 0 ≤ sI τ 160 d) (e1 : sI τ 160 d < 121) (wp : ∀ e, W e → 0 ≤ e) (nw : ¬ W d) (K : KLx τ W) (n0 : 0 ≤ n) (n1 : n ≤ 490000) (b0 : 0 ≤ b) (b1 : b ≤ 480000) (bn : b + n ≤ 490000) (hq : sF τ 175 + n ≤ 500000) (h154 : sF τ 154 = m) (h162 : sI τ 162 d = k0) (k00 : 0 ≤ k0) (km : k0 ≤ m) (m1 : m ≤ 250) (hm : many = m - k0) (hr : sF τ 177 + 10 * many ≤ 5000) (tt : ∀ k, 0 ≤ k → k < n → 0 ≤ sI τ 141 (b + k) ∧ sI τ 141 (b + k) ≤ 8) : ∃ υ, mm_lay_75 N to wn th d b n many τ = mm_toResumer N (layF to wn th d b υ) ∧ m_fr lwK τ υ ∧ KLx υ (fun e => W e ∨ e = d) ∧ (∀ x, 0 ≤ x → sI υ 164 x = if x = d then n else sI τ 164 x) ∧ (∀ x, 0 ≤ x → sI υ 166 x = if x = d then many else sI τ 166 x) ∧ (∀ e, W e → (∀ k j, 0 ≤ k → k < sI τ 166 e → j < 10 → kff υ e k j = kff τ e k j) ∧ ∀ i, 0 ≤ i → i < sI τ 164 e → kpt υ e i = kpt τ e i ∧ kpv υ e i = kpv τ e i) ∧ (∀ k, k0 ≤ k → k < m → (∀ j, j < 10 → j ≠ 3 → j ≠ 5 → kff υ d (k - k0) j = mff τ k j) ∧ kff υ d (k - k0) 3 = mff τ k 3 - b ∧ kff υ d (k - k0) 5 = mff τ k 5 - b) ∧ (∀ i, 0 ≤ i → i < n → kpt υ d i = sI τ 141 (b + i) ∧ kpv υ d i = sJ τ 142 (b + i)) := by
  obtain ⟨⟨q0, q1⟩, ⟨r0, r1⟩, k3, k4⟩ := K
  have d121 : d < 121 := Int32.lt_trans d1 (by decide)
  have mb : 0 ≤ many ∧ many ≤ 250 := by rw [hm]; clear k3 k4 tt; exact ⟨by lia, by lia⟩
  -- where it will lie
  let σ1 := md_ai (md_ai τ 163 d.toNatClampNeg (sF τ 175)) 164 d.toNatClampNeg n
  have f1 : m_fr (fun k => [163, 164].contains k) τ σ1 := mf_ai (mf_ai mf_rfl rfl) rfl
  have g1 : mm_lay_75 N to wn th d b n many τ = mm_lay_98 N N to wn th d b n many 0 σ1 := by
    clear k3 k4 tt
    simp (disch := first | exact d0 | exact d121 | decide) only [mm_lay_75, lt, gd_in, if_pos, if_neg, ↓reduceIte, gd_z0, gd_z1, gd_tt, sF_fold, sG_fold, sI_fold, sJ_fold, sF_pi, sF_pl, sF_ai, sF_al, sG_pi, sG_pl, sG_ai, sG_al, sI_pi, sI_pl, sI_al, sI_ai1, sI_ai2, sJ_pi, sJ_pl, sJ_ai, sJ_al1, sJ_al2, Nat.reduceEqDiff, if_true, if_false, ne_eq, not_false_eq_true, ite_true, ite_false, σ1]
  have s175 : sF σ1 175 = sF τ 175 := mf_F f1 rfl
  have s177 : sF σ1 177 = sF τ 177 := mf_F f1 rfl
  have s63 : ∀ x, 0 ≤ x → sI σ1 163 x = if x = d then sF τ 175 else sI τ 163 x := fun x x0 => by
    simp only [σ1]
    rw [sI_ai1 (by omega), sI_ai d0 x0]
    by_cases z : x = d
    · rw [if_pos ⟨rfl, z⟩, if_pos z]
    · rw [if_neg (fun y => z y.2), if_neg z]
  have s64 : ∀ x, 0 ≤ x → sI σ1 164 x = if x = d then n else sI τ 164 x := fun x x0 => by
    simp only [σ1]
    rw [sI_ai d0 x0]
    by_cases z : x = d
    · rw [if_pos ⟨rfl, z⟩, if_pos z]
    · rw [if_neg (fun y => z y.2), if_neg z, sI_ai1 (by omega)]
  obtain ⟨σ2, x1, x2, x3, x4, x5, x6, x7⟩ := lay98_lp (N := N) (σ := σ1) (to := to) (wn := wn) (th := th) (d := d) (n := n) (b := b) (q := sF τ 175) (many := many) d0 d121 n0 b0 b1 bn n1 s175 q0 q1 hq (fun k h0 h1 => by rw [mf_I f1 rfl]; exact tt k h0 h1) N 0 (by decide) n0 (big_d hN) σ1 mf_rfl (fun k h0 h1 => absurd h1 (Int32.not_lt.mpr h0)) (fun _ _ _ => ⟨rfl, rfl⟩)
  have p2 : ∀ k, k ≠ 165 → k ≠ 166 → k ≠ 175 → k ≠ 173 → k ≠ 174 → (lqM k || [165, 166, 175].contains k) = false := fun k h1 h2 h3 h4 h5 => by
    simp only [lqM, List.contains_cons, List.contains_nil, Bool.or_eq_false_iff, beq_eq_false_iff_ne]
    exact ⟨⟨h4, h5, trivial⟩, h1, h2, h3, trivial⟩
  have i2 : ∀ k x, k ≠ 165 → k ≠ 166 → k ≠ 175 → k ≠ 173 → k ≠ 174 → sI σ2 k x = sI σ1 k x := fun k x h1 h2 h3 h4 h5 => mf_I x2 (p2 k h1 h2 h3 h4 h5)
  have f162 : sI σ1 162 d = k0 := by rw [mf_I f1 rfl]; exact h162
  have s2177 : sF σ2 177 = sF τ 177 := by rw [mf_F x2 rfl]; exact s177
  have rn : sF τ 177 + 10 * (m - k0) ≤ 5000 := by rw [← hm]; exact hr
  obtain ⟨υ, y1, y2, y3, y4, y5⟩ := lay195_lp (N := N) (σ := σ2) (to := to) (wn := wn) (th := th) (d := d) (b := b) (k0 := k0) (n := m) (r := sF τ 177) d0 d121 (by rw [i2 160 d (by omega) (by omega) (by omega) (by omega) (by omega), mf_I f1 rfl]; exact e0) (by rw [i2 160 d (by omega) (by omega) (by omega) (by omega) (by omega), mf_I f1 rfl]; exact e1) (by rw [mf_F x2 rfl, mf_F f1 rfl]; exact h154) m1 k00 km s2177 r0 r1 rn N k0 (Int32.le_refl _) km (big_d hN) σ2 mf_rfl (by rw [s2177]; clear k3 k4 tt x6 x7; lia) (fun _ _ _ => rfl) (fun k h0 h1 => absurd h1 (Int32.not_lt.mpr h0))
  have i3 : ∀ k x, k ≠ 176 → k ≠ 177 → sI υ k x = sI σ2 k x := fun k x h1 h2 => mf_I y2 (by simp only [lrM, List.contains_cons, List.contains_nil, Bool.or_eq_false_iff, beq_eq_false_iff_ne]; exact ⟨h1, h2, trivial⟩)
  have j3 : ∀ x, sJ υ 174 x = sJ σ2 174 x := fun x => mf_J y2 rfl
  have u63 : ∀ x, 0 ≤ x → sI υ 163 x = if x = d then sF τ 175 else sI τ 163 x := fun x x0 => by
    rw [i3 163 x (by omega) (by omega), i2 163 x (by omega) (by omega) (by omega) (by omega) (by omega)]; exact s63 x x0
  have u64 : ∀ x, 0 ≤ x → sI υ 164 x = if x = d then n else sI τ 164 x := fun x x0 => by
    rw [i3 164 x (by omega) (by omega), i2 164 x (by omega) (by omega) (by omega) (by omega) (by omega)]; exact s64 x x0
  have u65 : ∀ x, 0 ≤ x → sI υ 165 x = if x = d then sF τ 177 else sI τ 165 x := fun x x0 => by
    rw [i3 165 x (by omega) (by omega), x4 x x0, s177, mf_I f1 rfl]
  have u66 : ∀ x, 0 ≤ x → sI υ 166 x = if x = d then many else sI τ 166 x := fun x x0 => by
    rw [i3 166 x (by omega) (by omega), x5 x x0, mf_I f1 rfl]
  have u175 : sF υ 175 = sF τ 175 + n := by rw [mf_F y2 rfl]; exact x3
  have u177 : sF υ 177 = sF τ 177 + 10 * many := by rw [hm]; exact y3
  have ne : ∀ e, W e → e ≠ d := fun e we z => nw (z ▸ we)
  have lo : ∀ m, 0 ≤ m → m < sF τ 175 → sI υ 173 m = sI τ 173 m ∧ sJ υ 174 m = sJ τ 174 m := fun m m0 m1 => by
    have := x7 m m0 m1
    rw [i3 173 m (by omega) (by omega), j3, this.1, this.2]
    exact ⟨mf_I f1 rfl, mf_J f1 rfl⟩
  have lo2 : ∀ m, 0 ≤ m → m < sF τ 177 → sI υ 176 m = sI τ 176 m := fun m m0 m1 => by
    rw [y4 m m0 m1, i2 176 m (by omega) (by omega) (by omega) (by omega) (by omega)]
    exact mf_I f1 rfl
  have qn := ly_b q0 n0 (Int32.le_trans n1 (by decide)) q1 (Int32.not_lt.mpr hq)
  have m5 : many ≤ 500 := Int32.le_trans mb.2 (by decide)
  have rn' := ly_e (r' := sF τ 177) r0 mb.1 m5 r1 hr (Int32.le_refl _)
  refine ⟨υ, by rw [g1, x1, f162]; exact y1, ?_, ⟨⟨by rw [u175]; exact qn.2, by rw [u175]; exact qn.1⟩, ⟨by rw [u177]; exact Int32.le_trans r0 rn', by rw [u177]; exact hr⟩, fun e he => ?_, fun e f he hf nef => ?_⟩, u64, u66, fun e we => ⟨fun k j h0 h1 hj => ?_, fun i i0 i1 => ?_⟩, fun k h0 h1 => ?_, fun i i0 i1 => ?_⟩
  · exact mf_tr (mf_mono f1 (fun k hk => by
      simp only [lwK, lyK, List.contains_cons, List.contains_nil, Bool.or_eq_false_iff, beq_eq_false_iff_ne] at hk ⊢
      (repeat' (first | exact trivial | omega | apply And.intro)))) (mf_tr (mf_mono x2 (fun k hk => by
      simp only [lwK, lyK, lqM, List.contains_cons, List.contains_nil, Bool.or_eq_false_iff, beq_eq_false_iff_ne] at hk ⊢
      (repeat' (first | exact trivial | omega | apply And.intro)))) (mf_mono y2 (fun k hk => by
      simp only [lwK, lyK, lrM, List.contains_cons, List.contains_nil, Bool.or_eq_false_iff, beq_eq_false_iff_ne] at hk ⊢
      (repeat' (first | exact trivial | omega | apply And.intro)))))
  · rcases he with we | rfl
    · have e0' := wp e we
      have nd := ne e we
      rw [u63 e e0', u64 e e0', u65 e e0', u66 e e0', if_neg nd, if_neg nd, if_neg nd, if_neg nd, u175, u177]
      obtain ⟨a1, a2, a3, a4, a5, a6⟩ := k3 e we
      exact ⟨a1, a2, a3, a4, fun s => ⟨(a5 s).1, (a5 s).2.1, ly_a q0 n0 (Int32.le_trans n1 (by decide)) q1 hq (a5 s).2.2⟩, fun s => ⟨(a6 s).1, (a6 s).2.1, ly_e r0 mb.1 m5 r1 hr (a6 s).2.2⟩⟩
    · rw [u63 _ d0, u64 _ d0, u65 _ d0, u66 _ d0, if_pos rfl, if_pos rfl, if_pos rfl, if_pos rfl, u175, u177]
      exact ⟨n0, Int32.le_trans n1 (by decide), mb.1, m5, fun _ => ⟨q0, q1, Int32.le_refl _⟩, fun _ => ⟨r0, r1, Int32.le_refl _⟩⟩
  · have two : ∀ e, W e → KLd (sI τ 163 e) (sI τ 164 e) (sI τ 165 e) (sI τ 166 e) (sF τ 175) n (sF τ 177) many := fun e we => by
      obtain ⟨a1, a2, a3, a4, a5, a6⟩ := k3 e we
      exact ⟨fun s _ => .inl (a5 s).2.2, fun s _ => .inl (a6 s).2.2⟩
    rcases he with we | rfl
    · have e0' := wp e we
      have nd := ne e we
      rcases hf with wf | rfl
      · have f0' := wp f wf
        have nf := ne f wf
        rw [u63 e e0', u64 e e0', u65 e e0', u66 e e0', if_neg nd, if_neg nd, if_neg nd, if_neg nd, u63 f f0', u64 f f0', u65 f f0', u66 f f0', if_neg nf, if_neg nf, if_neg nf, if_neg nf]
        exact k4 e f we wf nef
      · rw [u63 e e0', u64 e e0', u65 e e0', u66 e e0', if_neg nd, if_neg nd, if_neg nd, if_neg nd, u63 _ d0, u64 _ d0, u65 _ d0, u66 _ d0, if_pos rfl, if_pos rfl, if_pos rfl, if_pos rfl]
        exact two e we
    · rcases hf with wf | rfl
      · have f0' := wp f wf
        have nf := ne f wf
        rw [u63 f f0', u64 f f0', u65 f f0', u66 f f0', if_neg nf, if_neg nf, if_neg nf, if_neg nf, u63 _ d0, u64 _ d0, u65 _ d0, u66 _ d0, if_pos rfl, if_pos rfl, if_pos rfl, if_pos rfl]
        have t := two f wf
        exact ⟨fun s s' => (t.1 s' s).symm, fun s s' => (t.2 s' s).symm⟩
      · exact absurd rfl nef
  · have e0' := wp e we
    simp only [kff]
    rw [u65 e e0', if_neg (ne e we)]
    obtain ⟨a1, a2, a3, a4, a5, a6⟩ := k3 e we
    have p := ky_1 a4 h0 h1 hj
    have c := a6 (Int32.lt_of_le_of_lt h0 h1)
    have ad := ky_2 a4 c.1 c.2.1 (ten_1 a3 a4).2.1 (ten_1 a3 a4).2.2.1 p.2.1 p.2.2 c.2.2 r1
    rw [Int32.add_assoc]
    exact lo2 _ ad.1 ad.2
  · have e0' := wp e we
    simp only [kpt, kpv]
    rw [u63 e e0', if_neg (ne e we)]
    obtain ⟨a1, a2, a3, a4, a5, a6⟩ := k3 e we
    have c := a5 (Int32.lt_of_le_of_lt i0 i1)
    have ad := ky_3 c.1 c.2.1 a1 a2 i0 i1 c.2.2 q1
    exact lo _ ad.1 ad.2
  · have := y5 k h0 h1
    simp only [kff]
    rw [u65 d d0, if_pos rfl]
    have mf : ∀ j, j < 10 → mff σ2 k j = mff τ k j := fun j hj => by
      show sI σ2 (144 + j) k = sI τ (144 + j) k
      rw [i2 _ k (by omega) (by omega) (by omega) (by omega) (by omega)]
      exact mf_I f1 (by simp only [List.contains_cons, List.contains_nil, Bool.or_eq_false_iff, beq_eq_false_iff_ne]; exact ⟨by omega, by omega, trivial⟩)
    exact ⟨fun j hj h3 h5 => by rw [this.1 j hj h3 h5, mf j hj], by rw [this.2.1, mf 3 (by omega)], by rw [this.2.2, mf 5 (by omega)]⟩
  · have := x6 i i0 i1
    simp only [kpt, kpv]
    rw [u63 d d0, if_pos rfl, i3 173 _ (by omega) (by omega), j3, this.1, this.2]
    exact ⟨mf_I f1 rfl, mf_J f1 rfl⟩
