/-! LAYER 2: the system's collector: strings come together -/
def swD (τ : mS) (h : Int32) : mS := md_ai (md_pi (md_pi (md_ai τ 136 h.toNatClampNeg (sF τ 139)) 139 h) 140 (sF τ 140 - 1)) 142 h.toNatClampNeg 0
def swK0 (τ : mS) (h : Int32) : mS := md_ai (md_pi (md_ai (x_cp τ 131 (sI τ 128 h) 131 (sF τ 141) (sI τ 129 h)) 128 h.toNatClampNeg (sF τ 141)) 141 (sF τ 141 + sI τ 129 h)) 136 h.toNatClampNeg (-1)
def swK (τ : mS) (h : Int32) : mS := md_ai (md_pi (if sF τ 138 = -1 then md_pi (swK0 τ h) 137 h else md_ai (swK0 τ h) 136 (sF τ 138).toNatClampNeg h) 138 h) 142 h.toNatClampNeg 0
theorem swD_p {τ : mS} {h : Int32} (h0 : 0 ≤ h) : (∀ x, 0 ≤ x → sI (swD τ h) 136 x = if x = h then sF τ 139 else sI τ 136 x) ∧ (∀ x, 0 ≤ x → sI (swD τ h) 142 x = if x = h then 0 else sI τ 142 x) ∧ sF (swD τ h) 137 = sF τ 137 ∧ sF (swD τ h) 138 = sF τ 138 ∧ sF (swD τ h) 139 = h ∧ sF (swD τ h) 140 = sF τ 140 - 1 ∧ sF (swD τ h) 141 = sF τ 141 ∧ m_fr (fun k => [136, 139, 140, 142].contains k) τ (swD τ h) := by
  refine ⟨fun x x0 => ?_, fun x x0 => ?_, ?_, ?_, ?_, ?_, ?_, mf_ai (mf_pi (mf_pi (mf_ai mf_rfl rfl) rfl) rfl) rfl⟩
  · rw [swD, sI_ai1 (by decide), sI_pi, sI_pi, sI_ai h0 x0]
    by_cases e : x = h
    · rw [if_pos ⟨rfl, e⟩, if_pos e]
    · rw [if_neg (fun q => e q.2), if_neg e]
  · rw [swD, sI_ai h0 x0, sI_pi, sI_pi, sI_ai1 (by decide)]
    by_cases e : x = h
    · rw [if_pos ⟨rfl, e⟩, if_pos e]
    · rw [if_neg (fun q => e q.2), if_neg e]
  all_goals (simp (disch := decide) only [swD, sF_pi, sF_pl, sF_ai, sF_al, sG_pi, sG_pl, sG_ai, sG_al, sI_pi, sI_pl, sI_al, sI_ai1, sI_ai2, sJ_pi, sJ_pl, sJ_ai, sJ_al1, sJ_al2, Nat.reduceEqDiff, if_true, if_false, ne_eq, not_false_eq_true, ite_true, ite_false])
theorem swK_p {τ : mS} {h : Int32} (h0 : 0 ≤ h) (l0 : sF τ 138 = -1 ∨ 0 ≤ sF τ 138) (a0 : 0 ≤ sI τ 128 h) (n0 : 0 ≤ sI τ 129 h) (an : sI τ 128 h ≤ sI τ 128 h + sI τ 129 h) (b0 : 0 ≤ sF τ 141) (bn : sF τ 141 ≤ sF τ 141 + sI τ 129 h) : (∀ x, 0 ≤ x → sI (swK τ h) 136 x = if sF τ 138 ≠ -1 ∧ x = sF τ 138 then h else if x = h then -1 else sI τ 136 x) ∧ (∀ x, 0 ≤ x → sI (swK τ h) 142 x = if x = h then 0 else sI τ 142 x) ∧ (∀ x, 0 ≤ x → sI (swK τ h) 128 x = if x = h then sF τ 141 else sI τ 128 x) ∧ (∀ m, 0 ≤ m → sI (swK τ h) 131 m = if sF τ 141 ≤ m ∧ m < sF τ 141 + sI τ 129 h then sI τ 131 (sI τ 128 h + (m - sF τ 141)) else sI τ 131 m) ∧ sF (swK τ h) 137 = (if sF τ 138 = -1 then h else sF τ 137) ∧ sF (swK τ h) 138 = h ∧ sF (swK τ h) 139 = sF τ 139 ∧ sF (swK τ h) 140 = sF τ 140 ∧ sF (swK τ h) 141 = sF τ 141 + sI τ 129 h ∧ m_fr (fun k => [128, 131, 136, 137, 138, 141, 142].contains k) τ (swK τ h) ∧ (∀ m, ∃ m', (swK τ h).2.2.1 131 m = τ.2.2.1 131 m') := by
  have c131 : ∀ m, 0 ≤ m → sI (swK0 τ h) 131 m = if sF τ 141 ≤ m ∧ m < sF τ 141 + sI τ 129 h then sI τ 131 (sI τ 128 h + (m - sF τ 141)) else sI τ 131 m := fun m m0 => by
    rw [swK0, sI_ai1 (by decide), sI_pi, sI_ai1 (by decide), sI_cp a0 b0 n0 m0 an bn]
    by_cases e : sF τ 141 ≤ m ∧ m < sF τ 141 + sI τ 129 h
    · rw [if_pos ⟨rfl, e⟩, if_pos e]
    · rw [if_neg (fun q => e q.2), if_neg e]
  have c128 : ∀ x, 0 ≤ x → sI (swK0 τ h) 128 x = if x = h then sF τ 141 else sI τ 128 x := fun x x0 => by
    rw [swK0, sI_ai1 (by decide), sI_pi, sI_ai h0 x0, sI_cp1 (by decide)]
    by_cases e : x = h
    · rw [if_pos ⟨rfl, e⟩, if_pos e]
    · rw [if_neg (fun q => e q.2), if_neg e]
  have c136 : ∀ x, 0 ≤ x → sI (swK0 τ h) 136 x = if x = h then -1 else sI τ 136 x := fun x x0 => by
    rw [swK0, sI_ai h0 x0, sI_pi, sI_ai1 (by decide), sI_cp1 (by decide)]
    by_cases e : x = h
    · rw [if_pos ⟨rfl, e⟩, if_pos e]
    · rw [if_neg (fun q => e q.2), if_neg e]
  have c142 : ∀ x, sI (swK0 τ h) 142 x = sI τ 142 x := fun x => by
    rw [swK0, sI_ai1 (by decide), sI_pi, sI_ai1 (by decide), sI_cp1 (by decide)]
  have cF : ∀ k, k ≠ 141 → sF (swK0 τ h) k = sF τ k := fun k hk => by
    rw [swK0, sF_ai, sF_pi, if_neg hk, sF_ai]
    rfl
  have c141 : sF (swK0 τ h) 141 = sF τ 141 + sI τ 129 h := by
    rw [swK0, sF_ai, sF_pi, if_pos rfl]
  have cfr : m_fr (fun k => [128, 131, 136, 137, 138, 141, 142].contains k) τ (swK0 τ h) := mf_ai (mf_pi (mf_ai (mf_mono cp_fr (fun k hk => by
    simp only [List.contains_cons, List.contains_nil, Bool.or_eq_false_iff, beq_eq_false_iff_ne] at hk
    simp only [beq_eq_false_iff_ne]; omega)) rfl) rfl) rfl
  have c131' : ∀ m, ∃ m', (swK0 τ h).2.2.1 131 m = τ.2.2.1 131 m' := fun m => by
    have e : (swK0 τ h).2.2.1 131 m = (x_cp τ 131 (sI τ 128 h) 131 (sF τ 141) (sI τ 129 h)).2.2.1 131 m := by
      simp only [swK0, ai_I, pi_I]
      rw [if_neg (by decide), if_neg (by decide)]
    rw [e, cp_at]
    by_cases q : (sF τ 141).toNatClampNeg ≤ m ∧ m < (sF τ 141).toNatClampNeg + (sI τ 129 h).toNatClampNeg
    · rw [if_pos q]; exact ⟨_, rfl⟩
    · rw [if_neg q]; exact ⟨_, rfl⟩
  by_cases c : sF τ 138 = -1
  · simp only [swK, if_pos c]
    generalize swK0 τ h = υ at *
    refine ⟨fun x x0 => ?_, fun x x0 => ?_, fun x x0 => ?_, fun m m0 => ?_, ?_, ?_, ?_, ?_, ?_, mf_ai (mf_pi (mf_pi cfr rfl) rfl) rfl, fun m => ?_⟩
    · rw [sI_ai1 (by decide), sI_pi, sI_pi, c136 x x0, if_neg (show ¬ (sF τ 138 ≠ -1 ∧ x = sF τ 138) from fun q => q.1 c)]
    · rw [sI_ai h0 x0, sI_pi, sI_pi, c142]
      by_cases e : x = h
      · rw [if_pos ⟨rfl, e⟩, if_pos e]
      · rw [if_neg (fun q => e q.2), if_neg e]
    · rw [sI_ai1 (by decide), sI_pi, sI_pi, c128 x x0]
    · rw [sI_ai1 (by decide), sI_pi, sI_pi, c131 m m0]
    · rw [sF_ai, sF_pi, if_neg (by decide), sF_pi, if_pos rfl]
    · rw [sF_ai, sF_pi, if_pos rfl]
    · rw [sF_ai, sF_pi, if_neg (by decide), sF_pi, if_neg (by decide), cF _ (by decide)]
    · rw [sF_ai, sF_pi, if_neg (by decide), sF_pi, if_neg (by decide), cF _ (by decide)]
    · rw [sF_ai, sF_pi, if_neg (by decide), sF_pi, if_neg (by decide), c141]
    · obtain ⟨m', e⟩ := c131' m
      exact ⟨m', by simp only [ai_I, pi_I]; rw [if_neg (by decide)]; exact e⟩
  · simp only [swK, if_neg c]
    have l1 : 0 ≤ sF τ 138 := l0.resolve_left c
    generalize swK0 τ h = υ at *
    refine ⟨fun x x0 => ?_, fun x x0 => ?_, fun x x0 => ?_, fun m m0 => ?_, ?_, ?_, ?_, ?_, ?_, mf_ai (mf_pi (mf_ai cfr rfl) rfl) rfl, fun m => ?_⟩
    · rw [sI_ai1 (by decide), sI_pi, sI_ai l1 x0, c136 x x0]
      by_cases e : x = sF τ 138
      · rw [if_pos ⟨rfl, e⟩, if_pos ⟨c, e⟩]
      · rw [if_neg (fun q => e q.2), if_neg (show ¬ (sF τ 138 ≠ -1 ∧ x = sF τ 138) from fun q => e q.2)]
    · rw [sI_ai h0 x0, sI_pi, sI_ai1 (by decide), c142]
      by_cases e : x = h
      · rw [if_pos ⟨rfl, e⟩, if_pos e]
      · rw [if_neg (fun q => e q.2), if_neg e]
    · rw [sI_ai1 (by decide), sI_pi, sI_ai1 (by decide), c128 x x0]
    · rw [sI_ai1 (by decide), sI_pi, sI_ai1 (by decide), c131 m m0]
    · rw [sF_ai, sF_pi, if_neg (by decide), sF_ai, cF _ (by decide)]
    · rw [sF_ai, sF_pi, if_pos rfl]
    · rw [sF_ai, sF_pi, if_neg (by decide), sF_ai, cF _ (by decide)]
    · rw [sF_ai, sF_pi, if_neg (by decide), sF_ai, cF _ (by decide)]
    · rw [sF_ai, sF_pi, if_neg (by decide), sF_ai, c141]
    · obtain ⟨m', e⟩ := c131' m
      exact ⟨m', by simp only [ai_I, pi_I]; rw [if_neg (by decide), if_neg (by decide)]; exact e⟩
theorem SWI_d {σ τ : mS} {K R f : List Int32} {v A h : Int32} (S : SWI σ τ K (h :: R) f v A) : ∃ A', SWI σ (swD τ h) K R (h :: f) (sI τ 136 h) A' := by
  obtain ⟨fr, O, L, ⟨E, lE⟩, b1, b2, r1, r2, r3, r4, r5, r6⟩ := S
  obtain ⟨q1, ⟨h0, h1⟩, q3, q4, q5, q6, q7⟩ := OLI_h O
  obtain ⟨d1, d2, d3, d4, d5, d6, d7, dfr⟩ := swD_p (τ := τ) h0
  obtain ⟨l1, l2, l3, l4, l5⟩ := lE
  generalize swD τ h = υ at *
  have i128 : ∀ x, sI υ 128 x = sI τ 128 x := fun x => mf_I dfr rfl
  have i131 : ∀ x, sI υ 131 x = sI τ 131 x := fun x => mf_I dfr rfl
  refine ⟨A + sI σ 129 h, mf_tr fr (mf_mono dfr (fun k hk => by
    simp only [swF, List.contains_cons, List.contains_nil, Bool.or_eq_false_iff, beq_eq_false_iff_ne] at hk
    simp only [List.contains_cons, List.contains_nil, Bool.or_eq_false_iff, beq_eq_false_iff_ne]; (repeat' (first | exact trivial | omega | apply And.intro)))), ?_, ?_, ⟨E, l5⟩, by rw [d7]; exact Int32.le_trans b1 l3, l4, fun x hx => ?_, fun m m0 m1 => ?_, fun x hx k k0 k1 => ?_, fun x x0 x1 hx => ?_, fun x x0 => by rw [i128]; exact r5 x x0, fun m => ?_⟩
  · rw [d3, d4, d5, d6]
    exact OLI_f O (by decide) (by rw [d1 h h0, if_pos rfl]) (fun x x0 ne => by rw [d1 x x0, if_neg ne])
  · rw [d7]
    exact lay_congr L (fun x _ => ⟨i128 x, rfl⟩)
  · obtain ⟨u1, u2⟩ := r1 x (List.mem_cons_of_mem _ hx)
    have x0 : 0 ≤ x := (O.2.2.2.2.2.1 x (by simp [hx])).1
    rw [i128, d2 x x0, if_neg (fun e => q4 (by rw [← e]; exact hx))]
    exact ⟨u1, u2⟩
  · rw [i131]
    exact r2 m (Int32.le_trans l3 m0) m1
  · rw [i131, i128]
    exact r3 x hx k k0 k1
  · rw [d2 x x0]
    by_cases e : x = h
    · rw [if_pos e]
    · rw [if_neg e]
      exact r4 x x0 x1 (fun w => (List.mem_cons.mp w).elim e hx)
  · obtain ⟨m', e⟩ := r6 m
    exact ⟨m', by rw [← e, dfr.2.2.1 131 rfl]⟩
theorem sw_9 {B A n m : Int32} (b0 : 0 ≤ B) (b1 : B ≤ A) (a3 : A ≤ 300000) (n0 : 0 ≤ n) (n1 : A + n ≤ 300000) (an : A ≤ A + n) : B ≤ B + n ∧ B + n ≤ A + n ∧ B + n ≤ 300000 ∧ (A + n ≤ m → ¬ (B ≤ m ∧ m < B + n)) ∧ (0 ≤ m → m < n → 0 ≤ B + m ∧ B ≤ B + m ∧ B + m < B + n ∧ B + m - B = m) := ⟨by lia, by lia, by lia, fun h q => by lia, fun h0 h1 => ⟨by lia, by lia, by lia, by lia⟩⟩
theorem SWI_k {σ τ : mS} {K R f : List Int32} {v A h : Int32} (S : SWI σ τ K (h :: R) f v A) : ∃ A', SWI σ (swK τ h) (K ++ [h]) R f (sI τ 136 h) A' := by
  obtain ⟨fr, O, L, ⟨E, lE⟩, b1, b2, r1, r2, r3, r4, r5, r6⟩ := S
  obtain ⟨q1, ⟨h0, h1⟩, q3, q4, q5, q6, q7⟩ := OLI_h O
  obtain ⟨l1, l2, l3, l4, l5⟩ := lE
  have e128 : sI τ 128 h = A := (r1 h List.mem_cons_self).1.trans l1
  have e129 : ∀ x, sI τ 129 x = sI σ 129 x := fun x => mf_I fr rfl
  have Ll := lay_le L (by decide)
  have B0 : 0 ≤ sF τ 141 := Ll.1
  have A0 : 0 ≤ A := Int32.le_trans B0 b1
  have ar := fun m => sw_9 (m := m) B0 b1 b2 l2 l4 l3
  obtain ⟨k1, k2, k3, k4, k5, k6, k7, k8, k9, kfr, k10⟩ := swK_p (τ := τ) h0 (by
    rcases q6 with w | ⟨_, w, _⟩
    · exact .inl w
    · exact .inr w) (by rw [e128]; exact A0) (by rw [e129]; exact l2) (by rw [e128, e129]; exact l3) B0 (by rw [e129]; exact (ar 0).1)
  generalize swK τ h = υ at *
  rw [e129] at k4 k9
  rw [e128] at k4
  generalize hB : sF τ 141 = B at *
  generalize hn : sI σ 129 h = n at *
  have nn : ∀ x, x ∈ K ++ h :: R ++ f → 0 ≤ x := fun x hx => (O.2.2.2.2.2.1 x hx).1
  refine ⟨A + n, mf_tr fr (mf_mono kfr (fun k hk => by
    simp only [swF, List.contains_cons, List.contains_nil, Bool.or_eq_false_iff, beq_eq_false_iff_ne] at hk
    simp only [List.contains_cons, List.contains_nil, Bool.or_eq_false_iff, beq_eq_false_iff_ne]; (repeat' (first | exact trivial | omega | apply And.intro)))), ?_, ?_, ⟨E, l5⟩, by rw [k9]; exact (ar 0).2.1, l4, fun x hx => ?_, fun m m0 m1 => ?_, fun x hx k k0 kl => ?_, fun x x0 x1 hx => ?_, fun x x0 => ?_, fun m => ?_⟩
  · rw [k6, k7, k8]
    refine OLI_k O ?_ (fun c => ⟨by rw [k5, if_pos c], fun x x0 ne => ?_⟩) (fun c => ⟨by rw [k5, if_neg c], ?_, fun x x0 ne ne' => ?_⟩)
    · rw [k1 h h0, if_neg (fun q => ?_), if_pos rfl]
      rcases q6 with w | ⟨_, _, _, w, _⟩
      · exact q.1 w
      · exact w q.2.symm
    · rw [k1 x x0, if_neg (fun q => q.1 c), if_neg ne]
    · have l1' : 0 ≤ sF τ 138 := by
        rcases q6 with w | ⟨_, w, _⟩
        · exact absurd w c
        · exact w
      rw [k1 _ l1', if_pos ⟨c, rfl⟩]
    · rw [k1 x x0, if_neg (fun q => ne' q.2), if_neg ne]
  · rw [lay_app]
    refine ⟨B, lay_congr L (fun x hx => ⟨?_, rfl⟩), ?_⟩
    · rw [k3 x (nn x (by simp [hx])), if_neg (fun e => q3 (by rw [← e]; exact hx))]
    · rw [k9]
      exact ⟨by rw [k3 h h0, if_pos rfl], by rw [hn]; exact l2, by rw [hn]; exact (ar 0).1, by rw [hn]; exact (ar 0).2.2.1, by rw [hn]; rfl⟩
  · obtain ⟨u1, u2⟩ := r1 x (List.mem_cons_of_mem _ hx)
    have x0 : 0 ≤ x := nn x (by simp [hx])
    have ne : x ≠ h := fun e => q4 (by rw [← e]; exact hx)
    rw [k3 x x0, if_neg ne, k2 x x0, if_neg ne]
    exact ⟨u1, u2⟩
  · rw [k4 m (Int32.le_trans A0 (Int32.le_trans l3 m0)), if_neg ((ar m).2.2.2.1 m0)]
    exact r2 m (Int32.le_trans l3 m0) m1
  · rcases List.mem_append.mp hx with w | w
    · obtain ⟨z1, z2, z3, z4⟩ := Ll.2.2 x w
      have x0 : 0 ≤ x := nn x (by simp [w])
      have ne : x ≠ h := fun e => q3 (by rw [← e]; exact w)
      have kk : 0 ≤ sI τ 128 x + k ∧ sI τ 128 x + k < B := by
        clear ar r1 r2 r3 r4 r5 r6 k1 k2 k3 k4 k10 nn O L q6 q7
        exact ⟨by lia, by lia⟩
      rw [k3 x x0, if_neg ne, k4 _ kk.1, if_neg (fun q => absurd q.1 (Int32.not_le.mpr kk.2))]
      exact r3 x w k k0 kl
    · rw [List.mem_singleton] at w
      subst w
      rw [hn] at kl
      obtain ⟨p1, p2, p3, p4⟩ := (ar k).2.2.2.2 k0 kl
      rw [k3 x h0, if_pos rfl, k4 _ p1, if_pos ⟨p2, p3⟩, p4, l1]
      refine r2 _ ?_ ?_
      · clear ar r1 r2 r3 r4 r5 r6 k1 k2 k3 k4 k10 nn O L q6 q7
        lia
      · clear ar r1 r2 r3 r4 r5 r6 k1 k2 k3 k4 k10 nn O L q6 q7
        lia
  · rw [k2 x x0]
    by_cases e : x = h
    · rw [if_pos e]
    · rw [if_neg e]
      exact r4 x x0 x1 (fun w => (List.mem_cons.mp w).elim e hx)
  · rw [k3 x (Int32.le_trans (by decide) x0), if_neg (fun e => by
      rw [e] at x0
      exact absurd h1 (Int32.not_lt.mpr x0))]
    exact r5 x x0
  · obtain ⟨m1, e1⟩ := k10 m
    obtain ⟨m2, e2⟩ := r6 m1
    exact ⟨m2, e1.trans e2⟩
theorem lay_sm {f z : Int32 → Int32} {M : Int32} : ∀ {l : List Int32} {a b : Int32}, lay f z M a l b → 0 ≤ a → M ≤ 1000000 → b.toInt = a.toInt + (l.map (fun x => (z x).toInt)).sum
  | [], a, b, s, _, _ => by cases s; simp
  | x :: l, a, b, s, h, hM => by
    obtain ⟨s1, s2, s3, s4, s5⟩ := s
    have e : (a + z x).toInt = a.toInt + (z x).toInt := tI_ad h (Int32.le_trans s3 (Int32.le_trans s4 hM)) s2 (by clear s5; lia)
    rw [lay_sm s5 (Int32.le_trans h s3) hM, e]
    simp only [List.map_cons, List.sum_cons]
    omega
def mkd (σ : mS) (k : Nat) (x : Int32) : Bool := decide (sI σ k x ≠ 0)
theorem sw20 {N : Nat} {σ : mS} : ∀ (R : List Int32) (n : Nat) (K f : List Int32) (v A : Int32) (τ : mS), R.length < n → SWI σ τ K R f v A → ∃ τ' f' A', xx2_sweep_b20 N n v τ = some τ' ∧ SWI σ τ' (K ++ R.filter (mkd σ 142)) [] f' (-1) A'
  | [], n, K, f, v, A, τ, hn, S => by
    obtain ⟨n, rfl⟩ : ∃ j, n = j + 1 := ⟨n - 1, by simp at hn; omega⟩
    have e : v = -1 := S.2.1.2.2.2.1
    subst e
    refine ⟨τ, f, A, ?_, by simpa using S⟩
    rw [xx2_sweep_b20, if_pos rfl]
  | h :: R, n, K, f, v, A, τ, hn, S => by
    obtain ⟨n, rfl⟩ : ∃ j, n = j + 1 := ⟨n - 1, by simp at hn; omega⟩
    obtain ⟨q1, ⟨h0, h1⟩, q3, q4, q5, q6, q7⟩ := OLI_h S.2.1
    subst q1
    have v1 : ¬ v = -1 := fun e => by rw [e] at h0; exact absurd h0 (by decide)
    have e142 : sI τ 142 v = sI σ 142 v := (S.2.2.2.2.2.2.1 v List.mem_cons_self).2
    have h44 : v < 44000 := Int32.lt_trans h1 (by decide)
    rw [xx2_sweep_b20, if_neg v1, gd_in (by decide) h0 h1]
    simp only [lt, sF_fold, sI_fold]
    rw [gd_in (by decide) h0 h1, e142]
    by_cases c : sI σ 142 v = 0
    · obtain ⟨A', S'⟩ := SWI_d S
      obtain ⟨τ', f', A2, e, P⟩ := sw20 (N := N) R n K (v :: f) (sI τ 136 v) A' _ (by simp at hn; omega) S'
      refine ⟨τ', f', A2, ?_, ?_⟩
      · rw [← e, if_pos c, gd_in (by decide) h0 h1, xx2_sweep_b159, gd_in (by decide) h0 h1]
        rfl
      · have : (v :: R).filter (mkd σ 142) = R.filter (mkd σ 142) := by
          rw [List.filter_cons, if_neg (by simp [mkd, c])]
        rw [this]; exact P
    · obtain ⟨A', S'⟩ := SWI_k S
      obtain ⟨τ', f', A2, e, P⟩ := sw20 (N := N) R n (K ++ [v]) f (sI τ 136 v) A' _ (by simp at hn; omega) S'
      refine ⟨τ', f', A2, ?_, ?_⟩
      · obtain ⟨fr, O, L, ⟨E, l1, l2, l3, l4, l5⟩, b1, b2, r1, _⟩ := S
        have e128 : sI τ 128 v = A := (r1 v List.mem_cons_self).1.trans l1
        have e129 : sI τ 129 v = sI σ 129 v := mf_I fr rfl
        have Ll := lay_le L (by decide)
        have A0 : 0 ≤ A := Int32.le_trans Ll.1 b1
        have ar := sw_9 (m := 0) Ll.1 b1 b2 l2 l4 l3
        rw [← e, if_neg c, gd_in (by decide) h0 h44, gd_in (by decide) h0 h44]
        have g : (x_aB 4 131 && x_aB 4 131 && x_cB (sI τ 128 v) (sI τ 129 v) (x_ln 131) && x_cB (sF τ 141) (sI τ 129 v) (x_ln 131)) = true := by
          rw [cB_x ba_131 (by rw [e128]; exact A0) (by rw [e129]; exact l2) (by rw [e128, e129]; exact l3) (by rw [e128, e129]; exact l4), cB_x ba_131 Ll.1 (by rw [e129]; exact l2) (by rw [e129]; exact ar.1) (by rw [e129]; exact ar.2.2.1), ba_131.1]
          rfl
        rw [g, gd_tt, gd_in (by decide) h0 h44, gd_in (by decide) h0 h44, gd_in (by decide) h0 h1]
        have f138 : sF (md_ai (md_pi (md_ai (x_cp τ 131 (sI τ 128 v) 131 (sF τ 141) (sI τ 129 v)) 128 v.toNatClampNeg (sF (x_cp τ 131 (sI τ 128 v) 131 (sF τ 141) (sI τ 129 v)) 141)) 141 (sF (md_ai (x_cp τ 131 (sI τ 128 v) 131 (sF τ 141) (sI τ 129 v)) 128 v.toNatClampNeg (sF (x_cp τ 131 (sI τ 128 v) 131 (sF τ 141) (sI τ 129 v)) 141)) 141 + sI (md_ai (x_cp τ 131 (sI τ 128 v) 131 (sF τ 141) (sI τ 129 v)) 128 v.toNatClampNeg (sF (x_cp τ 131 (sI τ 128 v) 131 (sF τ 141) (sI τ 129 v)) 141)) 129 v)) 136 v.toNatClampNeg (-1)) 138 = sF τ 138 := rfl
        have f129 : sI (md_ai (x_cp τ 131 (sI τ 128 v) 131 (sF τ 141) (sI τ 129 v)) 128 v.toNatClampNeg (sF (x_cp τ 131 (sI τ 128 v) 131 (sF τ 141) (sI τ 129 v)) 141)) 129 v = sI τ 129 v := by rw [sI_ai1 (by decide), sI_cp1 (by decide)]
        rw [f138, f129, swK, swK0]
        by_cases c2 : sF τ 138 = -1
        · rw [if_pos c2, if_pos c2, xx2_sweep_b126, lt, xx2_sweep_b159, gd_in (by decide) h0 h1]
          rfl
        · have lb : 0 ≤ sF τ 138 ∧ sF τ 138 < 12000 := by
            rcases q6 with w | ⟨_, w1, w2, _⟩
            · exact absurd w c2
            · exact ⟨w1, w2⟩
          rw [if_neg c2, if_neg c2, gd_in (by decide) lb.1 lb.2, xx2_sweep_b126, lt, xx2_sweep_b159, gd_in (by decide) h0 h1]
          rfl
      · have : (v :: R).filter (mkd σ 142) = v :: R.filter (mkd σ 142) := by
          rw [List.filter_cons, if_pos (by simp [mkd, c])]
        rw [this, show K ++ v :: R.filter (mkd σ 142) = K ++ [v] ++ R.filter (mkd σ 142) by simp]
        exact P
/-- the strings that are not marked go -/
theorem sweepS_x {N : Nat} (hN : BIG ≤ N) {σ : mS} {o f : List Int32} (O : OL (sI σ 136) (sF σ 137) (sF σ 138) (sF σ 139) (sF σ 140) 12000 o f) (L : lay (sI σ 128) (sI σ 129) 300000 0 o (sF σ 141)) (hh : ∀ x, x ∈ o → x_hs σ x) (hz : ∀ x, 0 ≤ x → x < 12000 → x ∉ o → sI σ 142 x = 0) : ∃ τ f', xx2_sweep N σ = some τ ∧ SX τ (o.filter (mkd σ 142)) f' ∧ (∀ h, h ∈ o.filter (mkd σ 142) → ∀ k, 0 ≤ k → k < sI σ 129 h → x_by τ h k = x_by σ h k) ∧ (∀ h, 12000 ≤ h → x_sm σ τ h) ∧ (sF τ 141).toInt = ((o.filter (mkd σ 142)).map (fun x => (sI σ 129 x).toInt)).sum ∧ (NB σ → NB τ) ∧ m_fr swF σ τ := by
  have S0 : SWI σ (md_pi (md_pi (md_pi σ 137 (-1)) 138 (-1)) 141 0) [] o f (sF σ 137) 0 := by
    have Ll := lay_le L (by decide)
    refine ⟨mf_pi (mf_pi (mf_pi mf_rfl rfl) rfl) rfl, OLI_0 O, by show (0 : Int32) = _; simp only [sF_pi, sF_pl, sF_ai, sF_al, sG_pi, sG_pl, sG_ai, sG_al, sI_pi, sI_pl, sI_al, sI_ai1, sI_ai2, sJ_pi, sJ_pl, sJ_ai, sJ_al1, sJ_al2, Nat.reduceEqDiff, if_true, if_false, ne_eq, not_false_eq_true, ite_true, ite_false], ⟨_, L⟩, by simp only [sF_pi, sF_pl, sF_ai, sF_al, sG_pi, sG_pl, sG_ai, sG_al, sI_pi, sI_pl, sI_al, sI_ai1, sI_ai2, sJ_pi, sJ_pl, sJ_ai, sJ_al1, sJ_al2, Nat.reduceEqDiff, if_true, if_false, ne_eq, not_false_eq_true, ite_true, ite_false]; decide, by decide, fun x _ => ⟨by simp only [sF_pi, sF_pl, sF_ai, sF_al, sG_pi, sG_pl, sG_ai, sG_al, sI_pi, sI_pl, sI_al, sI_ai1, sI_ai2, sJ_pi, sJ_pl, sJ_ai, sJ_al1, sJ_al2, Nat.reduceEqDiff, if_true, if_false, ne_eq, not_false_eq_true, ite_true, ite_false], by simp only [sF_pi, sF_pl, sF_ai, sF_al, sG_pi, sG_pl, sG_ai, sG_al, sI_pi, sI_pl, sI_al, sI_ai1, sI_ai2, sJ_pi, sJ_pl, sJ_ai, sJ_al1, sJ_al2, Nat.reduceEqDiff, if_true, if_false, ne_eq, not_false_eq_true, ite_true, ite_false]⟩, fun m _ _ => by simp only [sF_pi, sF_pl, sF_ai, sF_al, sG_pi, sG_pl, sG_ai, sG_al, sI_pi, sI_pl, sI_al, sI_ai1, sI_ai2, sJ_pi, sJ_pl, sJ_ai, sJ_al1, sJ_al2, Nat.reduceEqDiff, if_true, if_false, ne_eq, not_false_eq_true, ite_true, ite_false], fun x hx => absurd hx (by simp), fun x x0 x1 hx => by simp only [sF_pi, sF_pl, sF_ai, sF_al, sG_pi, sG_pl, sG_ai, sG_al, sI_pi, sI_pl, sI_al, sI_ai1, sI_ai2, sJ_pi, sJ_pl, sJ_ai, sJ_al1, sJ_al2, Nat.reduceEqDiff, if_true, if_false, ne_eq, not_false_eq_true, ite_true, ite_false]; exact hz x x0 x1 hx, fun x _ => by simp only [sF_pi, sF_pl, sF_ai, sF_al, sG_pi, sG_pl, sG_ai, sG_al, sI_pi, sI_pl, sI_al, sI_ai1, sI_ai2, sJ_pi, sJ_pl, sJ_ai, sJ_al1, sJ_al2, Nat.reduceEqDiff, if_true, if_false, ne_eq, not_false_eq_true, ite_true, ite_false], fun m => ⟨m, rfl⟩⟩
  obtain ⟨τ, f', A', e, S⟩ := sw20 (N := N) o N [] f (sF σ 137) 0 _ (by
    have := O.2.2.2.2.2.1
    rw [tI_cl, show (12000 : Int32).toInt = 12000 from rfl, List.length_append] at this
    simp only [BIG] at hN
    omega) S0
  rw [List.nil_append] at S
  obtain ⟨fr, OI, L', _, b1, b2, _, _, r3, r4, r5, r6⟩ := S
  obtain ⟨_, O'⟩ := OLI_e OI
  have e129 : ∀ x, sI τ 129 x = sI σ 129 x := fun x => mf_I fr rfl
  have e130 : ∀ x, sI τ 130 x = sI σ 130 x := fun x => mf_I fr rfl
  have e132 : ∀ x, sI τ 132 x = sI σ 132 x := fun x => mf_I fr rfl
  have mem : ∀ x, x ∈ o.filter (mkd σ 142) → x ∈ o ∧ 0 ≤ x ∧ x < 12000 := fun x hx => by
    have q := (List.mem_filter.mp hx).1
    have r := O.2.2.2.2.1 x (List.mem_append.mpr (.inl q))
    exact ⟨q, r.1, r.2⟩
  have by' : ∀ h, h ∈ o.filter (mkd σ 142) → ∀ k, 0 ≤ k → k < sI σ 129 h → x_by τ h k = x_by σ h k := fun h hh' k k0 k1 => by
    rw [x_by, x_by, if_pos (mem h hh').2.2, if_pos (mem h hh').2.2, r3 h hh' k k0 k1]
  refine ⟨τ, f', ?_, ⟨O', lay_congr L' (fun x _ => ⟨rfl, e129 x⟩), fun x hx => ?_, fun x x0 x1 => r4 x x0 x1 (by simp)⟩, by', fun h hh' => ⟨r5 h hh', e129 h, e130 h, fun k k0 k1 => ?_⟩, ?_, fun nb k => ?_, fr⟩
  · rw [← e]
    rfl
  · have := hh x (mem x hx).1
    have sz : 0 ≤ sI σ 129 x := ((lay_le L (by decide)).2.2 x (mem x hx).1).2.2.2
    rw [x_hs, x_sz] at this ⊢
    rw [e130, e129, this]
    exact (hof_congr sz (fun k k0 k1 => by rw [by' x hx k k0 k1])).symm
  · rw [x_by, x_by, if_neg (Int32.not_lt.mpr hh'), if_neg (Int32.not_lt.mpr hh'), r5 h hh', e132]
  · rw [lay_sm L' (by decide) (by decide)]
    rw [show (0 : Int32).toInt = 0 from rfl, Int.zero_add]
  · obtain ⟨m', q⟩ := r6 k
    refine ⟨by rw [q]; exact (nb m').1, ?_⟩
    rw [fr.2.2.1 132 rfl]
    exact (nb k).2
