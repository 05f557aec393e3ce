/-! LAYER 2: yield: how much is kept; lay, whole -/
theorem lyK_lw {σ τ : mS} (h : m_fr lyK σ τ) : m_fr lwK σ τ := mf_mono h (fun k hk => by
  simp only [lwK, Bool.or_eq_false_iff] at hk
  exact hk.1)
/-- one that has state 0: it is new, or its calls are kept -/
theorem CO_w {S : SR} {K : Int32 → Int32 → Int32 → Prop} {q : Int} {w : WD} {xf : Int32 → List Int32} {c d a b : Int32} {rest : PL2} {σ μ : mS} (H : ME S K q w xf c d rest σ μ) (hab : (a, b) ∈ wC w) (h0 : sI μ 156 b = 0) : sI μ 159 b = 0 ∨ (sI μ 159 b = 1 ∧ FL S w σ (kff μ b) (kpt μ b) (kpv μ b) 4 0 0 (xf a) (sI μ 166 b) (sI σ 332 a, sI σ 333 a, sI σ 334 a, sI μ 167 b, sI μ 168 b, sI μ 169 b) ∧ sI μ 167 b = sI μ 164 b ∧ 0 ≤ sI μ 166 b ∧ sI μ 166 b ≤ 200) := by
  obtain ⟨_, h1, _, _, h⟩ := H.2.2.2.2.1.1 a b hab
  have h0' : sI σ 323 a = 0 := by rw [h1]; exact h0
  rcases h with h | h | h | h
  · exfalso
    rcases List.mem_cons.mp h with y | y
    · have e1 := (Prod.mk.inj y).1
      rw [e1, H.2.2.2.2.2.2.1.2.2.1] at h0'
      exact absurd h0' (by decide)
    · have := (BC_st2 H.2.2.2.2.2.1 _ y).1
      simp only at this
      rw [this] at h0'
      exact absurd h0' (by decide)
  · rw [h.1] at h0'
    exact absurd h0' (by decide)
  · exact .inl h.2.2.2.1
  · exact .inr ⟨h.2.2.1, h.2.2.2.1, h.2.2.2.2.1, h.2.2.2.2.2.1, h.2.2.2.2.2.2⟩
theorem wts_C {S : SR} {K : Int32 → Int32 → Int32 → Prop} {q : Int} {w : WD} {xf : Int32 → List Int32} {c d b : Int32} {rest : PL2} {σ μ : mS} (H : ME S K q w xf c d rest σ μ) (b0 : 0 ≤ b) (b1 : b < 120) (h : sI μ 170 b = 1) : ∃ a, (a, b) ∈ wC w := by
  by_cases m : b ∈ (wC w).map Prod.snd
  · obtain ⟨p, hp, e⟩ := List.mem_map.mp m
    exact ⟨p.1, by rw [← e]; exact hp⟩
  · have := H.2.2.2.2.1.2.1 b b0 b1 m
    rw [this] at h
    exact absurd h (by decide)
theorem CO_bZ {S : SR} {K : Int32 → Int32 → Int32 → Prop} {q : Int} {w : WD} {xf : Int32 → List Int32} {c d : Int32} {rest : PL2} {σ μ : mS} (H : ME S K q w xf c d rest σ μ) : bZ μ := by
  intro b b0 b1
  by_cases m : b ∈ (wC w).map Prod.snd
  · obtain ⟨p, hp, e⟩ := List.mem_map.mp m
    obtain ⟨a, b'⟩ := p
    simp only at e
    subst e
    refine ⟨.inr (H.2.2.2.2.1.1 a b' hp).2.2.2.1, fun _ h => ?_⟩
    rcases CO_w H hp h with y | y
    · exact .inl y
    · exact .inr y.1
  · have := H.2.2.2.2.1.2.1 b b0 b1 m
    exact ⟨.inl this, fun h => absurd (this.symm.trans h) (by decide)⟩
theorem x2300 {x n : Int32} (h0 : 0 ≤ n) (h1 : n ≤ 200) (h : x ≤ 0 + 2300 * (n - 0)) : x.toInt ≤ 2300 * n.toInt := by
  rw [Int32.zero_add, Int32.sub_zero, tI_le] at h
  rw [tI_le] at h0 h1
  have z0 : (0 : Int32).toInt = 0 := rfl
  have z1 : (200 : Int32).toInt = 200 := rfl
  have z2 : (2300 : Int32).toInt = 2300 := rfl
  rw [tI_mul (by rw [z2]; omega) (by rw [z2]; omega), z2] at h
  exact h
theorem sum_c {α : Type} {l : List α} {f g : α → Int} {k : Int} (h : ∀ x, x ∈ l → f x ≤ k * g x) : (l.map f).sum ≤ k * (l.map g).sum := by
  induction l with
  | nil => simp
  | cons a l ih =>
    simp only [List.map_cons, List.sum_cons, Int.mul_add]
    have := h a List.mem_cons_self
    have := ih (fun x hx => h x (List.mem_cons_of_mem _ hx))
    omega
/-- how much is kept -/
theorem lay_sum {S : SR} {K : Int32 → Int32 → Int32 → Prop} {q : Int} {w : WD} {xf : Int32 → List Int32} {c d : Int32} {rest : PL2} {σ μ : mS} (H : ME S K q w xf c d rest σ μ) : (((wC w).map Prod.snd).map (szV μ)).sum ≤ 2300 * kSum w μ ∧ (((wC w).map Prod.snd).map (szR μ)).sum ≤ kSum w μ := by
  have pos := CO_166 H
  simp only [kSum, List.map_map]
  refine ⟨sum_c (fun p hp => ?_), ?_⟩
  · have p0 := pos p hp
    simp only [Function.comp, szV]
    by_cases c : wtb μ p.2 = true
    · rw [if_pos c]
      have wt := wtb_i.mp c
      rcases CO_w (a := p.1) (b := p.2) H hp wt.2.2.2.1 with y | ⟨_, y1, y2, y3, y4⟩
      · exact absurd (y.symm.trans wt.2.2.2.2) (by decide)
      · have := FL_pl2 y1 (by decide) y4 (by decide) (by decide)
        simp only at this
        rw [y2] at this
        exact x2300 y3 y4 this
    · rw [if_neg c]; omega
  · have := sum_c (l := wC w) (f := fun p => szR μ p.2) (g := fun p => (sI μ 166 p.2).toInt) (k := 1) (fun p hp => by
      have p0 := pos p hp
      simp only [szR]
      by_cases c : wtb μ p.2 = true
      · rw [if_pos c]; omega
      · rw [if_neg c]; omega)
    rw [Int.one_mul] at this
    exact this
theorem snd_nd {S : SR} {K : Int32 → Int32 → Int32 → Prop} {q : Int} {w : WD} {xf : Int32 → List Int32} {c d : Int32} {rest : PL2} {σ μ : mS} (H : ME S K q w xf c d rest σ μ) : ((wC w).map Prod.snd).Nodup := by
  have W := H.1.1.1
  refine List.pairwise_map.mpr (List.Pairwise.imp_of_mem (fun {p r} hp hr ne => fun e => ne ?_) (wC_nd H.2.2.2.2.1))
  have := (W.2.2.1 p.1 p.2 r.1 r.2 hp hr).mpr e
  exact Prod.ext this e
theorem lay_k {n0 n k0 B to many : Int32} {KS : Int} (b0 : 0 ≤ B) (bt : B ≤ to) (t1 : to ≤ 470000) (k00 : 0 ≤ k0) (kn : k0 ≤ n0) (n1 : n0 ≤ 200) (h : to ≤ B + 2300 * (n0 - k0)) (hn : n = to - B) (hm : many = n0 - k0) (ks : KS + n0.toInt ≤ 200) : (0 ≤ n ∧ n ≤ 490000 ∧ B + n ≤ 490000 ∧ B ≤ 480000) ∧ (0 ≤ many ∧ many ≤ 200) ∧ 2300 * KS + n.toInt ≤ 500000 ∧ 10 * KS + 10 * many.toInt ≤ 5000 := by
  subst hn; subst hm
  have m0 : 0 ≤ n0 - k0 ∧ n0 - k0 ≤ 200 := ⟨by lia, by lia⟩
  have a1 : to - B ≤ 2300 * (n0 - k0) := by lia
  have a2 : 0 ≤ to - B ∧ to - B ≤ 490000 ∧ B + (to - B) ≤ 490000 ∧ B ≤ 480000 := ⟨by lia, by lia, by lia, by lia⟩
  refine ⟨a2, m0, ?_⟩
  have x := x2300 (x := to - B) m0.1 m0.2 (by rw [Int32.zero_add, Int32.sub_zero]; exact a1)
  have y := (y_n1 k00 kn n1).2.2
  rw [tI_le] at k00
  have z0 : (0 : Int32).toInt = 0 := rfl
  omega
theorem ly_t {b to n i : Int32} (b0 : 0 ≤ b) (bt : b ≤ to) (t1 : to ≤ 470000) (hn : n = to - b) (i0 : 0 ≤ i) (i1 : i < n) : b ≤ b + i ∧ b + i < to := by
  subst hn
  exact ⟨by lia, by lia⟩
theorem ly_u {x n : Int32} (h0 : 0 ≤ n) (h1 : n ≤ 200) (h : x ≤ 0 + 2300 * (n - 0)) : x ≤ 480000 := by lia
/-- lay, whole -/
theorem lay_m {e : EV} (E : EVok e) {w : WD} {xf : Int32 → List Int32} {c d : Int32} {rest : PL2} {ct : CT} {σ μ : mS} (H : CL e w xf c d rest ct σ μ) (hd : d ≠ 120) (top : sF μ 143 = ct.2.2.2.1) {wn th : Int32} : ∃ υ, mm_lay (eN e) μ ct.2.2.2.1 wn th = mm_toResumer (eN e) (layF ct.2.2.2.1 wn th d (sI μ 161 d) υ) ∧ m_fr lwK μ υ ∧ KLx υ (fun x => wts μ x ∨ x = d) ∧ (∀ x, 0 ≤ x → sI υ 164 x = if x = d then ct.2.2.2.1 - sI μ 161 d else sI μ 164 x) ∧ (∀ x, 0 ≤ x → sI υ 166 x = if x = d then sF μ 154 - sI μ 162 d else sI μ 166 x) ∧ (∀ x, wts μ x → (∀ k j, 0 ≤ k → k < sI μ 166 x → j < 10 → kff υ x k j = kff μ x k j) ∧ ∀ i, 0 ≤ i → i < sI μ 164 x → kpt υ x i = kpt μ x i ∧ kpv υ x i = kpv μ x i) ∧ (∀ k, sI μ 162 d ≤ k → k < sF μ 154 → (∀ j, j < 10 → j ≠ 3 → j ≠ 5 → kff υ d (k - sI μ 162 d) j = mff μ k j) ∧ kff υ d (k - sI μ 162 d) 3 = mff μ k 3 - sI μ 161 d ∧ kff υ d (k - sI μ 162 d) 5 = mff μ k 5 - sI μ 161 d) ∧ (∀ i, 0 ≤ i → i < ct.2.2.2.1 - sI μ 161 d → kpt υ d i = sI μ 141 (sI μ 161 d + i) ∧ kpv υ d i = sJ μ 142 (sI μ 161 d + i)) := by
  have hN := EV_N E
  have hE := E.1
  have bb := CL_b H
  have nn := CL_n H
  have M := H.1
  have now : sF μ 172 = d := M.2.2.2.2.2.2.1.2.1
  have W := M.1.1.1
  have KM : KL μ := M.2.2.2.2.1.2.2.2.2.2
  have sums := lay_sum M
  obtain ⟨o1, o2, o3, o4, o5⟩ := M.2.2.2.2.2.2.2.2.1
  have ks : kSum w μ + (sF μ 154).toInt ≤ 200 := by
    have t := o3
    rw [o1, tI_le] at t
    have z1 : (200 : Int32).toInt = 200 := rfl
    omega
  obtain ⟨n, hn⟩ : ∃ n, n = ct.2.2.2.1 - sI μ 161 d := ⟨_, rfl⟩
  obtain ⟨many, hm⟩ : ∃ m, m = sF μ 154 - sI μ 162 d := ⟨_, rfl⟩
  have lk := lay_k bb.2.2.2.1 bb.2.2.2.2 bb.2.1 bb.2.2.1.1 bb.2.2.1.2.1 bb.2.2.1.2.2 nn.2.2.2.2.2.2.2.1.2 hn hm ks
  obtain ⟨⟨l1, l2, l3, l4⟩, ⟨l5, l6⟩, l7, l8⟩ := lk
  have cc := ME_c M
  have dr : (0 ≤ d ∧ d < 120) ∧ 0 ≤ sI μ 160 d ∧ sI μ 160 d < 121 := by
    cases hr : rest with
    | nil => exact absurd (cc.2.2.2.2.2.1.mpr hr) hd
    | cons p rest' =>
      obtain ⟨c2, d2⟩ := p
      have B := M.2.2.2.2.2.1
      rw [hr] at B
      have w6 := W.2.2.2.2.2 c d B.1
      refine ⟨w6.2, ?_⟩
      rw [B.2.2.2.2.2.1.2]
      rcases BC_mem B (c2, d2) (List.mem_cons_of_mem _ List.mem_cons_self) with y | ⟨y, _⟩
      · have y2 := (Prod.mk.inj y).2
        show 0 ≤ d2 ∧ d2 < 121
        rw [y2]; exact ⟨by decide, by decide⟩
      · have w7 := W.2.2.2.2.2 c2 d2 y
        exact ⟨w7.2.1, Int32.lt_trans w7.2.2 (by decide)⟩
  obtain ⟨⟨d0, d1⟩, e0, e1⟩ := dr
  have d121 : d < 121 := Int32.lt_trans d1 (by decide)
  have nw : ¬ wts μ d := fun z => by
    have := M.2.2.2.2.2.2.1.2.2.2
    rw [z.2.2.2.1] at this
    exact absurd this (by decide)
  have tg : ∀ i, 0 ≤ i → i < n → 0 ≤ sI μ 141 (sI μ 161 d + i) ∧ sI μ 141 (sI μ 161 d + i) ≤ 8 := fun i i0 i1 => by
    have a := ky_3 bb.2.2.2.1 (Int32.le_trans l4 (by decide)) l1 (Int32.le_trans l2 (by decide)) i0 i1 (Int32.le_refl _) (Int32.le_trans l3 (by decide))
    have s := ly_t bb.2.2.2.1 bb.2.2.2.2 bb.2.1 hn i0 i1
    exact FL_tag bb.2.2.2.1 bb.2.2.1.1 H.2.2 (Int32.le_trans bb.2.2.1.2.2 (by decide)) (Int32.le_trans bb.2.1 (by decide)) _ s.1 s.2
  have go : mm_lay (eN e) μ ct.2.2.2.1 wn th = (if 500000 < sF μ 175 + n then mm_lay_71 (eN e) ct.2.2.2.1 wn th d (sI μ 161 d) n many μ else (if sF μ 177 + 10 * many ≤ 5000 then mm_lay_75 (eN e) ct.2.2.2.1 wn th d (sI μ 161 d) n many μ else mm_lay_71 (eN e) ct.2.2.2.1 wn th d (sI μ 161 d) n many μ)) := by
    simp only [mm_lay, lt, sF_fold, sI_fold, now, top, ← hn]
    rw [gd_in (by decide) d0 d121, gd_in (by decide) d0 d121, ← hm]
    rfl
  have fin : ∀ τ, m_fr lyK μ τ → KLx τ (wts μ) → sF τ 175 + n ≤ 500000 → sF τ 177 + 10 * many ≤ 5000 → (∀ x, wts μ x → (∀ k j, 0 ≤ k → k < sI μ 166 x → j < 10 → kff τ x k j = kff μ x k j) ∧ ∀ i, 0 ≤ i → i < sI μ 164 x → kpt τ x i = kpt μ x i ∧ kpv τ x i = kpv μ x i) → ∃ υ, mm_lay_75 (eN e) ct.2.2.2.1 wn th d (sI μ 161 d) n many τ = mm_toResumer (eN e) (layF ct.2.2.2.1 wn th d (sI μ 161 d) υ) ∧ m_fr lwK μ υ ∧ KLx υ (fun x => wts μ x ∨ x = d) ∧ (∀ x, 0 ≤ x → sI υ 164 x = if x = d then n else sI μ 164 x) ∧ (∀ x, 0 ≤ x → sI υ 166 x = if x = d then many else sI μ 166 x) ∧ (∀ x, wts μ x → (∀ k j, 0 ≤ k → k < sI μ 166 x → j < 10 → kff υ x k j = kff μ x k j) ∧ ∀ i, 0 ≤ i → i < sI μ 164 x → kpt υ x i = kpt μ x i ∧ kpv υ x i = kpv μ x i) ∧ (∀ k, sI μ 162 d ≤ k → k < sF μ 154 → (∀ j, j < 10 → j ≠ 3 → j ≠ 5 → kff υ d (k - sI μ 162 d) j = mff μ k j) ∧ kff υ d (k - sI μ 162 d) 3 = mff μ k 3 - sI μ 161 d ∧ kff υ d (k - sI μ 162 d) 5 = mff μ k 5 - sI μ 161 d) ∧ (∀ i, 0 ≤ i → i < n → kpt υ d i = sI μ 141 (sI μ 161 d + i) ∧ kpv υ d i = sJ μ 142 (sI μ 161 d + i)) := fun τ fr KX q1 q2 oth => by
    have i : ∀ k, (k < 163 ∨ 177 < k) ∨ k = 164 ∨ (165 < k ∧ k < 173) → ∀ x, sI τ k x = sI μ k x := fun k hk x => mf_I fr (lyK_f hk)
    have e141 : ∀ x, sI τ 141 x = sI μ 141 x := i 141 (by omega)
    have e142 : ∀ x, sJ τ 142 x = sJ μ 142 x := fun x => mf_J fr (lyK_f (by omega))
    have rw' : ∀ k j, j < 10 → mff τ k j = mff μ k j := fun k j hj => i _ (by omega) k
    obtain ⟨υ, u1, u2, u3, u4, u5, u6, u7, u8⟩ := lay75_m hN (τ := τ) (W := wts μ) (to := ct.2.2.2.1) (wn := wn) (th := th) (b := sI μ 161 d) (k0 := sI μ 162 d) (n := n) (m := sF μ 154) (many := many) d0 d1 (by rw [i 160 (by omega)]; exact e0) (by rw [i 160 (by omega)]; exact e1) (fun x hx => hx.1) nw KX l1 l2 bb.2.2.2.1 l4 l3 q1 (mf_F fr (lyK_f (by omega))) (i 162 (by omega) d) bb.2.2.1.1 bb.2.2.1.2.1 (Int32.le_trans bb.2.2.1.2.2 (by decide)) hm q2 (fun k h0 h1 => by rw [e141]; exact tg k h0 h1)
    refine ⟨υ, u1, mf_tr (lyK_lw fr) u2, u3, fun x x0 => by rw [u4 x x0, i 164 (by omega)], fun x x0 => by rw [u5 x x0, i 166 (by omega)], fun x wx => ⟨fun k j h0 h1 hj => ?_, fun y h0 h1 => ?_⟩, fun k h0 h1 => ?_, fun y h0 h1 => ?_⟩
    · rw [(u6 x wx).1 k j h0 (by rw [i 166 (by omega)]; exact h1) hj]
      exact (oth x wx).1 k j h0 h1 hj
    · obtain ⟨t1, t2⟩ := (u6 x wx).2 y h0 (by rw [i 164 (by omega)]; exact h1)
      rw [t1, t2]
      exact (oth x wx).2 y h0 h1
    · obtain ⟨t1, t2, t3⟩ := u7 k h0 h1
      exact ⟨fun j hj n3 n5 => by rw [t1 j hj n3 n5, rw' k j hj], by rw [t2, rw' k 3 (by omega)], by rw [t3, rw' k 5 (by omega)]⟩
    · obtain ⟨t1, t2⟩ := u8 y h0 h1
      rw [t1, t2, e141, e142]
      exact ⟨rfl, rfl⟩
  have tog : ∃ υ, mm_lay_71 (eN e) ct.2.2.2.1 wn th d (sI μ 161 d) n many μ = mm_toResumer (eN e) (layF ct.2.2.2.1 wn th d (sI μ 161 d) υ) ∧ m_fr lwK μ υ ∧ KLx υ (fun x => wts μ x ∨ x = d) ∧ (∀ x, 0 ≤ x → sI υ 164 x = if x = d then n else sI μ 164 x) ∧ (∀ x, 0 ≤ x → sI υ 166 x = if x = d then many else sI μ 166 x) ∧ (∀ x, wts μ x → (∀ k j, 0 ≤ k → k < sI μ 166 x → j < 10 → kff υ x k j = kff μ x k j) ∧ ∀ i, 0 ≤ i → i < sI μ 164 x → kpt υ x i = kpt μ x i ∧ kpv υ x i = kpv μ x i) ∧ (∀ k, sI μ 162 d ≤ k → k < sF μ 154 → (∀ j, j < 10 → j ≠ 3 → j ≠ 5 → kff υ d (k - sI μ 162 d) j = mff μ k j) ∧ kff υ d (k - sI μ 162 d) 3 = mff μ k 3 - sI μ 161 d ∧ kff υ d (k - sI μ 162 d) 5 = mff μ k 5 - sI μ 161 d) ∧ (∀ i, 0 ≤ i → i < n → kpt υ d i = sI μ 141 (sI μ 161 d + i) ∧ kpv υ d i = sJ μ 142 (sI μ 161 d + i)) := by
    obtain ⟨τ, t1, t2, t3, t4, t5, t6⟩ := layT_m (N := eN e) (L := (wC w).map Prod.snd) (by omega) hN KM (CO_bZ M) (fun x wx i i0 i1 => by
      obtain ⟨a, ha⟩ := wts_C M wx.1 wx.2.1 wx.2.2.1
      rcases CO_w M ha wx.2.2.2.1 with y | ⟨_, y1, y2, y3, y4⟩
      · exact absurd (y.symm.trans wx.2.2.2.2) (by decide)
      · have a164 := (KM.2.2.1 x wx)
        have pl := FL_pl2 y1 (by decide) y4 (by decide) (by decide)
        simp only at pl
        exact FL_tag (by decide) (by decide) y1 (Int32.le_trans y4 (by decide)) (ly_u y3 y4 pl) i i0 (by rw [y2]; exact i1)) (snd_nd M) (fun x wx => by
      obtain ⟨a, ha⟩ := wts_C M wx.1 wx.2.1 wx.2.2.1
      exact List.mem_map.mpr ⟨_, ha, rfl⟩)
    have ew := wts_eq t2
    have KX : KLx τ (wts μ) := by rw [← ew]; exact t3
    rw [mm_lay_71, t1]
    exact fin τ t2 KX (ly_c t3.1.1 l1 t5 (by omega)) (ly_d t3.2.1.1 l5 (Int32.le_trans l6 (by decide)) t6 (by omega)) t4
  rw [go, ← hn, ← hm]
  by_cases h1 : 500000 < sF μ 175 + n
  · rw [if_pos h1]; exact tog
  · rw [if_neg h1]
    by_cases h2 : sF μ 177 + 10 * many ≤ 5000
    · rw [if_pos h2]
      exact fin μ mf_rfl KM (Int32.not_lt.mp h1) h2 (fun _ _ => ⟨fun _ _ _ _ _ => rfl, fun _ _ _ => ⟨rfl, rfl⟩⟩)
    · rw [if_neg h2]; exact tog
