/-! LAYER 2: the system's strings: those that are made -/
def md_row (σ : mS) (k : Nat) (g : Nat → Int32) : mS := (σ.1, σ.2.1, va_up σ.2.2.1 k g, σ.2.2.2)
theorem row_ai {σ : mS} {k i : Nat} {g : Nat → Int32} {v : Int32} : md_ai (md_row σ k g) k i v = md_row σ k (upd g i v) := by
  simp only [md_ai, md_row]
  congr 3
  funext j
  simp only [va_up]
  by_cases h : j = k
  · simp [h]
  · simp [h]
theorem row_id {σ : mS} {k : Nat} : md_row σ k (σ.2.2.1 k) = σ := by
  obtain ⟨a, b, c, d⟩ := σ
  simp only [md_row]
  congr 3
  funext j
  simp only [va_up]
  by_cases h : j = k
  · simp [h]
  · simp [h]
theorem sF_row {σ : mS} {k j : Nat} {g : Nat → Int32} : sF (md_row σ k g) j = sF σ j := nrf rfl
theorem sG_row {σ : mS} {k j : Nat} {g : Nat → Int32} : sG (md_row σ k g) j = sG σ j := nrf rfl
theorem sJ_row {σ : mS} {k j : Nat} {g : Nat → Int32} {m : Int32} : sJ (md_row σ k g) j m = sJ σ j m := nrf rfl
theorem sI_row1 {σ : mS} {k j : Nat} {g : Nat → Int32} {m : Int32} (h : j ≠ k) : sI (md_row σ k g) j m = sI σ j m := by
  simp only [sI, md_row, va_up, if_neg h]
theorem sI_row2 {σ : mS} {k : Nat} {g : Nat → Int32} {m : Int32} : sI (md_row σ k g) k m = g m.toNatClampNeg := by
  simp only [sI, md_row, va_up, if_true]
theorem upd_cl {g : Nat → Int32} {i m v : Int32} (hi : 0 ≤ i) (hm : 0 ≤ m) : upd g i.toNatClampNeg v m.toNatClampNeg = if m = i then v else g m.toNatClampNeg := by
  rw [upd_at]
  by_cases e : m = i
  · simp [e]
  · rw [if_neg (fun h => e (cl_inj hm hi h)), if_neg e]
/-- the made ones: o in order, f free -/
def SX (σ : mS) (o f : List Int32) : Prop := OL (sI σ 136) (sF σ 137) (sF σ 138) (sF σ 139) (sF σ 140) 12000 o f ∧ lay (sI σ 128) (sI σ 129) 300000 0 o (sF σ 141) ∧ (∀ x, x ∈ o → x_hs σ x) ∧ (∀ x, 0 ≤ x → x < 12000 → sI σ 142 x = 0)
theorem SX_mem {σ : mS} {o f : List Int32} (H : SX σ o f) {x : Int32} (hx : x ∈ o) : x_sv σ x ∧ x < 12000 ∧ sI σ 128 x + sI σ 129 x ≤ sF σ 141 ∧ x_hs σ x := by
  have h1 := H.1.2.2.2.2.1 x (by simp [hx])
  obtain ⟨q1, q2, q3⟩ := lay_le H.2.1 (by decide)
  have := q3 x hx
  exact ⟨⟨h1.1, by lia, this.1, this.2.2.2, by lia, by lia, by lia, fun q => by lia⟩, h1.2, this.2.2.1, H.2.2.1 x hx⟩
theorem SX_top {σ : mS} {o f : List Int32} (H : SX σ o f) : 0 ≤ sF σ 141 ∧ sF σ 141 ≤ 300000 ∧ 0 ≤ sF σ 140 ∧ sF σ 140 ≤ 12000 := by
  obtain ⟨q1, q2, q3⟩ := lay_le H.2.1 (by decide)
  refine ⟨q1, q2, ?_, ?_⟩
  · rw [tI_le, H.1.2.2.2.2.2.2]
    have h0 : (0 : Int32).toInt = 0 := rfl
    omega
  · rw [tI_le, H.1.2.2.2.2.2.2]
    have h0 : (12000 : Int32).toInt = 12000 := rfl
    have := H.1.2.2.2.2.2.1
    have e : (12000 : Int32).toNatClampNeg = 12000 := rfl
    rw [List.length_append, e] at this
    omega
/-- the loop of make -/
theorem make_lp {N : Nat} {σ : mS} {v : Nat} {p n h L B : Int32} (hv : x_ba v L) (hne : v ≠ 131) (p0 : 0 ≤ p) (n0 : 0 ≤ n) (pn : p ≤ p + n) (pL : p + n ≤ L) (hB : sF σ 141 = B) (B0 : 0 ≤ B) (Bn : B ≤ B + n) (BM : B + n ≤ 300000) (h0 : 0 ≤ h) (h1 : h < 12000) : ∀ (k : Nat) (i : Int32), 0 ≤ i → i ≤ n → (n.toInt - i.toInt).toNat < k → ∀ g : Nat → Int32, (∀ m : Int32, 0 ≤ m → m < i → g (B + m).toNatClampNeg &&& 255 = sI σ v (p + m) &&& 255) → (∀ m : Int32, 0 ≤ m → m < B ∨ B + i ≤ m → g m.toNatClampNeg = sI σ 131 m) → ∃ g' : Nat → Int32, xx2_make_b110 N k v p n h (hof n (fun m => sI σ v (p + m) &&& 255) i) i (md_row σ 131 g) = some (.ok (h, md_pi (md_pi (md_ai (md_row σ 131 g') 130 h.toNatClampNeg (hof n (fun m => sI σ v (p + m) &&& 255) n)) 141 (B + n)) 140 (sF σ 140 + 1))) ∧ (∀ m : Int32, 0 ≤ m → m < n → g' (B + m).toNatClampNeg &&& 255 = sI σ v (p + m) &&& 255) ∧ (∀ m : Int32, 0 ≤ m → m < B ∨ B + n ≤ m → g' m.toNatClampNeg = sI σ 131 m) := by
  refine loop_up _ (fun k i i0 i1 ih g g1 g2 => ?_)
  rw [xx2_make_b110]
  by_cases c : i < n
  · simp (disch := lia) only [lt, gd_in, if_pos, if_neg, ↓reduceIte, gd_z0, gd_z1, gd_tt, sF_fold, sG_fold, sI_fold, sJ_fold, hv.1, gd_ba hv, sF_row, sI_row1, hB, row_ai, xx2_mix, bd]
    have e := hof_s (s := n) (f := fun m => sI σ v (p + m) &&& 255) i0 (by lia)
    rw [← e]
    refine ih c _ (fun m m0 m1 => ?_) (fun m m0 m1 => ?_)
    · rw [upd_cl (by lia) (by lia)]
      by_cases e : m = i
      · subst e; rw [if_pos rfl, b_mask]
      · rw [if_neg (by lia)]; exact g1 m m0 (by lia)
    · rw [upd_cl (by lia) (by lia), if_neg (by lia)]; exact g2 m m0 (by lia)
  · have e : i = n := by lia
    subst e
    refine ⟨g, ?_, g1, g2⟩
    simp (disch := lia) only [lt, gd_in, if_pos, if_neg, ↓reduceIte, gd_z0, gd_z1, gd_tt, sF_fold, sG_fold, sI_fold, sJ_fold, sF_pi, sF_pl, sF_ai, sF_al, sG_pi, sG_pl, sG_ai, sG_al, sI_pi, sI_pl, sI_al, sI_ai1, sI_ai2, sJ_pi, sJ_pl, sJ_ai, sJ_al1, sJ_al2, Nat.reduceEqDiff, if_true, if_false, ne_eq, not_false_eq_true, ite_true, ite_false, sF_row, hB]
theorem fr_F {o k : Nat} {σ τ : mS} (h : x_fr o σ τ) (hk : k / 64 ≠ o) : sF τ k = sF σ k := h.1 k hk
theorem fr_G {o k : Nat} {σ τ : mS} (h : x_fr o σ τ) (hk : k / 64 ≠ o) : sG τ k = sG σ k := h.2.1 k hk
theorem fr_I {o k : Nat} {σ τ : mS} {m : Int32} (h : x_fr o σ τ) (hk : k / 64 ≠ o) : sI τ k m = sI σ k m := congrFun (h.2.2.1 k hk) _
theorem fr_J {o k : Nat} {σ τ : mS} {m : Int32} (h : x_fr o σ τ) (hk : k / 64 ≠ o) : sJ τ k m = sJ σ k m := congrFun (h.2.2.2 k hk) _
theorem fr_row {o k : Nat} {σ τ : mS} {g : Nat → Int32} (h : x_fr o σ τ) (hk : k / 64 = o) : x_fr o σ (md_row τ k g) := ⟨h.1, h.2.1, fun j hj => by simp only [md_row, va_up]; rw [if_neg (fun e : j = k => hj (by rw [e]; exact hk))]; exact h.2.2.1 j hj, h.2.2.2⟩
theorem fr_cp {o k i : Nat} {σ τ : mS} {sp dp n : Int32} (h : x_fr o σ τ) (hk : k / 64 = o) : x_fr o σ (x_cp τ i sp k dp n) := ⟨h.1, h.2.1, fun j hj => by simp only [x_cp, va_up]; rw [if_neg (fun e : j = k => hj (by rw [e]; exact hk))]; exact h.2.2.1 j hj, h.2.2.2⟩
/-- a string stays as it is -/
def x_sm (σ τ : mS) (g : Int32) : Prop := sI τ 128 g = sI σ 128 g ∧ sI τ 129 g = sI σ 129 g ∧ sI τ 130 g = sI σ 130 g ∧ ∀ k, 0 ≤ k → k < sI σ 129 g → x_by τ g k = x_by σ g k
theorem sm_sv {σ τ : mS} {g : Int32} (h : x_sm σ τ g) (hv : x_sv σ g) : x_sv τ g := by
  obtain ⟨s1, s2, _, _⟩ := h
  simp only [x_sv, s1, s2]
  exact hv
theorem sm_hs {σ τ : mS} {g : Int32} (h : x_sm σ τ g) (h0 : 0 ≤ x_sz σ g) (hv : x_hs σ g) : x_hs τ g := by
  obtain ⟨s1, s2, s3, s4⟩ := h
  simp only [x_hs, x_sz, s2, s3] at *
  rw [hv]
  exact hof_congr h0 (fun k k0 k1 => (s4 k k0 k1).symm)
/-- what make does -/
def mk_post (σ τ : mS) (o f : List Int32) (v : Nat) (p n h : Int32) : Prop := ∃ f', f = h :: f' ∧ SX τ (o ++ [h]) f' ∧ h ∉ o ∧ 0 ≤ h ∧ h < 12000 ∧ x_sz τ h = n ∧ (∀ k, 0 ≤ k → k < n → x_by τ h k = sI σ v (p + k) &&& 255) ∧ sF τ 141 = sF σ 141 + n ∧ sF τ 140 = sF σ 140 + 1 ∧ sF τ 133 = sF σ 133 ∧ sF τ 134 = sF σ 134 ∧ (∀ m, sI τ 132 m = sI σ 132 m) ∧ (∀ m, sI τ 135 m = sI σ 135 m) ∧ (∀ g, g ∈ o ∨ 12000 ≤ g → x_sm σ τ g) ∧ x_fr 2 σ τ
theorem make_x0 {N : Nat} {σ : mS} {v : Nat} {p n : Int32} (h : sF σ 140 = 12000 ∨ 300000 < sF σ 141 + n) : xx2_make N σ v p n = some (.error (1101, σ)) := by
  by_cases c : sF σ 140 = 12000
  · simp (disch := lia) only [xx2_make, xx2_make_b21, lt, gd_in, if_pos, if_neg, ↓reduceIte, gd_z0, gd_z1, gd_tt, sF_fold, sG_fold, sI_fold, sJ_fold]
  · simp (disch := lia) only [xx2_make, xx2_make_b21, lt, gd_in, if_pos, if_neg, ↓reduceIte, gd_z0, gd_z1, gd_tt, sF_fold, sG_fold, sI_fold, sJ_fold]
theorem make_x {N : Nat} (hN : BIG ≤ N) {σ : mS} {o f : List Int32} {v : Nat} {p n L : Int32} (H : SX σ o f) (hv : x_ba v L) (hne : v ≠ 128 ∧ v ≠ 129 ∧ v ≠ 131 ∧ v ≠ 136) (p0 : 0 ≤ p) (n0 : 0 ≤ n) (n1 : n ≤ 300000) (pn : p ≤ p + n) (pL : p + n ≤ L) (c1 : sF σ 140 ≠ 12000) (c2 : sF σ 141 + n ≤ 300000) : ∃ h τ, xx2_make N σ v p n = some (.ok (h, τ)) ∧ mk_post σ τ o f v p n h := by
  obtain ⟨t1, t2, t3, t4⟩ := SX_top H
  obtain ⟨h, f', e1, e2, h0, h1, hno, hb, al⟩ := OL_alloc H.1 c1 (by decide)
  obtain ⟨hn1, hn2, hn3, hn4⟩ := hne
  have key : ∀ σ9 : mS, x_fr 2 σ σ9 → sF σ9 141 = sF σ 141 → sF σ9 140 = sF σ 140 → sF σ9 139 = sI σ 136 h → sF σ9 138 = h → sF σ9 133 = sF σ 133 → sF σ9 134 = sF σ 134 → (∀ k m, k ≠ 136 → k ≠ 128 → k ≠ 129 → sI σ9 k m = sI σ k m) → (∀ m, 0 ≤ m → m ≠ h → sI σ9 128 m = sI σ 128 m ∧ sI σ9 129 m = sI σ 129 m) → sI σ9 128 h = sF σ 141 → sI σ9 129 h = n → OL (sI σ9 136) (sF σ9 137) h (sI σ 136 h) (sF σ 140 + 1) 12000 (o ++ [h]) f' → ∃ h' τ, xx2_make_b110 N N v p n h n 0 σ9 = some (.ok (h', τ)) ∧ mk_post σ τ o f v p n h' := by
    intro σ9 q1 q2 q3 q4 q5 q6 q7 q8 q9 q10 q11 q12
    have hvs : ∀ m, sI σ9 v m = sI σ v m := fun m => q8 v m hn4 hn1 hn2
    obtain ⟨g, g1, g2, g3⟩ := make_lp (N := N) (σ := σ9) (v := v) (p := p) (n := n) (h := h) (L := L) (B := sF σ 141) hv hn3 p0 n0 pn pL q2 t1 (by lia) c2 h0 h1 N 0 (by lia) n0 (big_d hN) (σ9.2.2.1 131) (fun m m0 m1 => by lia) (fun m m0 m1 => rfl)
    rw [row_id, hof_0] at g1
    have G : ∀ m : Int32, 0 ≤ m → m < sF σ 141 → sI (md_row σ9 131 g) 131 m = sI σ 131 m := fun m m0 m1 => by rw [sI_row2, g3 m m0 (.inl m1)]; exact q8 131 m (by decide) (by decide) (by decide)
    have hsm : ∀ g', g' ∈ o ∨ 12000 ≤ g' → x_sm σ (md_pi (md_pi (md_ai (md_row σ9 131 g) 130 h.toNatClampNeg (hof n (fun m => sI σ9 v (p + m) &&& 255) n)) 141 (sF σ 141 + n)) 140 (sF σ9 140 + 1)) g' := by
      intro y hy
      have y0 : 0 ≤ y ∧ y ≠ h := by
        rcases hy with hy | hy
        · have := H.1.2.2.2.2.1 y (by simp [hy])
          exact ⟨this.1, fun q => hno (by rw [← q]; exact hy)⟩
        · exact ⟨by lia, by lia⟩
      have := q9 y y0.1 y0.2
      have y2 := y0.2
      have y1 := y0.1
      refine ⟨by simp (disch := lia) only [sF_pi, sF_pl, sF_ai, sF_al, sG_pi, sG_pl, sG_ai, sG_al, sI_pi, sI_pl, sI_al, sI_ai1, sI_ai2, sJ_pi, sJ_pl, sJ_ai, sJ_al1, sJ_al2, Nat.reduceEqDiff, if_true, if_false, ne_eq, not_false_eq_true, ite_true, ite_false, sI_row1]; exact this.1, by simp (disch := lia) only [sF_pi, sF_pl, sF_ai, sF_al, sG_pi, sG_pl, sG_ai, sG_al, sI_pi, sI_pl, sI_al, sI_ai1, sI_ai2, sJ_pi, sJ_pl, sJ_ai, sJ_al1, sJ_al2, Nat.reduceEqDiff, if_true, if_false, ne_eq, not_false_eq_true, ite_true, ite_false, sI_row1]; exact this.2, ?_, fun k k0 k1 => ?_⟩
      · rw [sI_pi, sI_pi, sI_ai h0 y1, if_neg (fun q => y2 q.2), sI_row1 (by decide)]
        exact q8 130 y (by decide) (by decide) (by decide)
      · simp (disch := lia) only [x_by, sF_pi, sF_pl, sF_ai, sF_al, sG_pi, sG_pl, sG_ai, sG_al, sI_pi, sI_pl, sI_al, sI_ai1, sI_ai2, sJ_pi, sJ_pl, sJ_ai, sJ_al1, sJ_al2, Nat.reduceEqDiff, if_true, if_false, ne_eq, not_false_eq_true, ite_true, ite_false, sI_row1, this.1]
        rcases hy with hy | hy
        · have m1 := SX_mem H hy
          have m2 := m1.2.1
          have m3 := m1.2.2.1
          have m4 := m1.1.2.2.1
          have m5 := m1.1.2.2.2.2.1
          have m6 := m1.1.2.2.2.2.2.1
          have m7 := m1.1.2.2.2.1
          clear this
          rw [if_pos m2, if_pos m2, G _ (by lia) (by lia)]
        · rw [if_neg (by lia), if_neg (by lia)]
          rw [q8 132 _ (by decide) (by decide) (by decide)]
    refine ⟨h, _, g1, f', e1, ⟨?_, ?_, ?_, ?_⟩, hno, h0, h1, ?_, ?_, ?_, ?_, ?_, ?_, ?_, ?_, hsm, ?_⟩
    · simp (disch := lia) only [sF_pi, sF_pl, sF_ai, sF_al, sG_pi, sG_pl, sG_ai, sG_al, sI_pi, sI_pl, sI_al, sI_ai1, sI_ai2, sJ_pi, sJ_pl, sJ_ai, sJ_al1, sJ_al2, Nat.reduceEqDiff, if_true, if_false, ne_eq, not_false_eq_true, ite_true, ite_false, q3, q4, q5, sF_row]
      have : (sI (md_pi (md_pi (md_ai (md_row σ9 131 g) 130 h.toNatClampNeg (hof n (fun m => sI σ9 v (p + m) &&& 255) n)) 141 (sF σ 141 + n)) 140 (sF σ 140 + 1)) 136) = sI σ9 136 := by
        funext m
        simp (disch := lia) only [sF_pi, sF_pl, sF_ai, sF_al, sG_pi, sG_pl, sG_ai, sG_al, sI_pi, sI_pl, sI_al, sI_ai1, sI_ai2, sJ_pi, sJ_pl, sJ_ai, sJ_al1, sJ_al2, Nat.reduceEqDiff, if_true, if_false, ne_eq, not_false_eq_true, ite_true, ite_false, sI_row1]
      rw [this]
      exact q12
    · rw [lay_app]
      refine ⟨sF σ 141, lay_congr H.2.1 (fun x hx => ?_), ?_⟩
      · have := hsm x (.inl hx)
        exact ⟨this.1, this.2.1⟩
      · simp (disch := lia) only [lay, sF_pi, sF_pl, sF_ai, sF_al, sG_pi, sG_pl, sG_ai, sG_al, sI_pi, sI_pl, sI_al, sI_ai1, sI_ai2, sJ_pi, sJ_pl, sJ_ai, sJ_al1, sJ_al2, Nat.reduceEqDiff, if_true, if_false, ne_eq, not_false_eq_true, ite_true, ite_false, sI_row1, q10, q11]
        exact ⟨trivial, n0, by lia, c2, trivial⟩
    · intro x hx
      rcases List.mem_append.mp hx with hx | hx
      · have := SX_mem H hx
        exact sm_hs (hsm x (.inl hx)) this.1.2.2.2.1 this.2.2.2
      · have : x = h := by simpa using hx
        subst this
        simp (disch := lia) only [x_hs, x_sz, sF_pi, sF_pl, sF_ai, sF_al, sG_pi, sG_pl, sG_ai, sG_al, sI_pi, sI_pl, sI_al, sI_ai1, sI_ai2, sJ_pi, sJ_pl, sJ_ai, sJ_al1, sJ_al2, Nat.reduceEqDiff, if_true, if_false, ne_eq, not_false_eq_true, ite_true, ite_false, sI_row1, q10, q11]
        refine hof_congr n0 (fun k k0 k1 => ?_)
        simp (disch := lia) only [x_by, sF_pi, sF_pl, sF_ai, sF_al, sG_pi, sG_pl, sG_ai, sG_al, sI_pi, sI_pl, sI_al, sI_ai1, sI_ai2, sJ_pi, sJ_pl, sJ_ai, sJ_al1, sJ_al2, Nat.reduceEqDiff, if_true, if_false, ne_eq, not_false_eq_true, ite_true, ite_false, sI_row1, q10]
        rw [if_pos h1, sI_row2, g2 k k0 k1]
    · intro x x0 x1
      simp (disch := lia) only [sF_pi, sF_pl, sF_ai, sF_al, sG_pi, sG_pl, sG_ai, sG_al, sI_pi, sI_pl, sI_al, sI_ai1, sI_ai2, sJ_pi, sJ_pl, sJ_ai, sJ_al1, sJ_al2, Nat.reduceEqDiff, if_true, if_false, ne_eq, not_false_eq_true, ite_true, ite_false, sI_row1]
      rw [q8 142 x (by decide) (by decide) (by decide)]
      exact H.2.2.2 x x0 x1
    · simp (disch := lia) only [x_sz, sF_pi, sF_pl, sF_ai, sF_al, sG_pi, sG_pl, sG_ai, sG_al, sI_pi, sI_pl, sI_al, sI_ai1, sI_ai2, sJ_pi, sJ_pl, sJ_ai, sJ_al1, sJ_al2, Nat.reduceEqDiff, if_true, if_false, ne_eq, not_false_eq_true, ite_true, ite_false, sI_row1, q11]
    · intro k k0 k1
      simp (disch := lia) only [x_by, sF_pi, sF_pl, sF_ai, sF_al, sG_pi, sG_pl, sG_ai, sG_al, sI_pi, sI_pl, sI_al, sI_ai1, sI_ai2, sJ_pi, sJ_pl, sJ_ai, sJ_al1, sJ_al2, Nat.reduceEqDiff, if_true, if_false, ne_eq, not_false_eq_true, ite_true, ite_false, sI_row1, q10]
      rw [if_pos h1, sI_row2, g2 k k0 k1, hvs]
    · simp (disch := lia) only [sF_pi, sF_pl, sF_ai, sF_al, sG_pi, sG_pl, sG_ai, sG_al, sI_pi, sI_pl, sI_al, sI_ai1, sI_ai2, sJ_pi, sJ_pl, sJ_ai, sJ_al1, sJ_al2, Nat.reduceEqDiff, if_true, if_false, ne_eq, not_false_eq_true, ite_true, ite_false]
    · simp (disch := lia) only [sF_pi, sF_pl, sF_ai, sF_al, sG_pi, sG_pl, sG_ai, sG_al, sI_pi, sI_pl, sI_al, sI_ai1, sI_ai2, sJ_pi, sJ_pl, sJ_ai, sJ_al1, sJ_al2, Nat.reduceEqDiff, if_true, if_false, ne_eq, not_false_eq_true, ite_true, ite_false, q3]
    · simp (disch := lia) only [sF_pi, sF_pl, sF_ai, sF_al, sG_pi, sG_pl, sG_ai, sG_al, sI_pi, sI_pl, sI_al, sI_ai1, sI_ai2, sJ_pi, sJ_pl, sJ_ai, sJ_al1, sJ_al2, Nat.reduceEqDiff, if_true, if_false, ne_eq, not_false_eq_true, ite_true, ite_false, sF_row, q6]
    · simp (disch := lia) only [sF_pi, sF_pl, sF_ai, sF_al, sG_pi, sG_pl, sG_ai, sG_al, sI_pi, sI_pl, sI_al, sI_ai1, sI_ai2, sJ_pi, sJ_pl, sJ_ai, sJ_al1, sJ_al2, Nat.reduceEqDiff, if_true, if_false, ne_eq, not_false_eq_true, ite_true, ite_false, sF_row, q7]
    · intro m
      simp (disch := lia) only [sF_pi, sF_pl, sF_ai, sF_al, sG_pi, sG_pl, sG_ai, sG_al, sI_pi, sI_pl, sI_al, sI_ai1, sI_ai2, sJ_pi, sJ_pl, sJ_ai, sJ_al1, sJ_al2, Nat.reduceEqDiff, if_true, if_false, ne_eq, not_false_eq_true, ite_true, ite_false, sI_row1]
      exact q8 132 m (by decide) (by decide) (by decide)
    · intro m
      simp (disch := lia) only [sF_pi, sF_pl, sF_ai, sF_al, sG_pi, sG_pl, sG_ai, sG_al, sI_pi, sI_pl, sI_al, sI_ai1, sI_ai2, sJ_pi, sJ_pl, sJ_ai, sJ_al1, sJ_al2, Nat.reduceEqDiff, if_true, if_false, ne_eq, not_false_eq_true, ite_true, ite_false, sI_row1]
      exact q8 135 m (by decide) (by decide) (by decide)
    · exact fr_pi (fr_pi (fr_ai (fr_row q1 rfl) rfl) rfl) rfl
  have e2' : sF σ 139 = h := e2
  by_cases hb1 : sF σ 138 = -1
  · simp (disch := lia) only [xx2_make, xx2_make_b79, lt, gd_in, if_pos, if_neg, ↓reduceIte, gd_z0, gd_z1, gd_tt, sF_fold, sG_fold, sI_fold, sJ_fold, sF_pi, sF_pl, sF_ai, sF_al, sG_pi, sG_pl, sG_ai, sG_al, sI_pi, sI_pl, sI_al, sI_ai1, sI_ai2, sJ_pi, sJ_pl, sJ_ai, sJ_al1, sJ_al2, Nat.reduceEqDiff, if_true, if_false, ne_eq, not_false_eq_true, ite_true, ite_false, e2', hb1]
    refine key _ (fr_ai (fr_ai (fr_pi (fr_pi (fr_ai (fr_pi fr_rfl rfl) rfl) rfl) rfl) rfl) rfl) ?_ ?_ ?_ ?_ ?_ ?_ ?_ ?_ ?_ ?_ ?_
    · simp only [sF_pi, sF_pl, sF_ai, sF_al, sG_pi, sG_pl, sG_ai, sG_al, sI_pi, sI_pl, sI_al, sI_ai1, sI_ai2, sJ_pi, sJ_pl, sJ_ai, sJ_al1, sJ_al2, Nat.reduceEqDiff, if_true, if_false, ne_eq, not_false_eq_true, ite_true, ite_false]
    · simp only [sF_pi, sF_pl, sF_ai, sF_al, sG_pi, sG_pl, sG_ai, sG_al, sI_pi, sI_pl, sI_al, sI_ai1, sI_ai2, sJ_pi, sJ_pl, sJ_ai, sJ_al1, sJ_al2, Nat.reduceEqDiff, if_true, if_false, ne_eq, not_false_eq_true, ite_true, ite_false]
    · simp only [sF_pi, sF_pl, sF_ai, sF_al, sG_pi, sG_pl, sG_ai, sG_al, sI_pi, sI_pl, sI_al, sI_ai1, sI_ai2, sJ_pi, sJ_pl, sJ_ai, sJ_al1, sJ_al2, Nat.reduceEqDiff, if_true, if_false, ne_eq, not_false_eq_true, ite_true, ite_false]
    · simp only [sF_pi, sF_pl, sF_ai, sF_al, sG_pi, sG_pl, sG_ai, sG_al, sI_pi, sI_pl, sI_al, sI_ai1, sI_ai2, sJ_pi, sJ_pl, sJ_ai, sJ_al1, sJ_al2, Nat.reduceEqDiff, if_true, if_false, ne_eq, not_false_eq_true, ite_true, ite_false]
    · simp only [sF_pi, sF_pl, sF_ai, sF_al, sG_pi, sG_pl, sG_ai, sG_al, sI_pi, sI_pl, sI_al, sI_ai1, sI_ai2, sJ_pi, sJ_pl, sJ_ai, sJ_al1, sJ_al2, Nat.reduceEqDiff, if_true, if_false, ne_eq, not_false_eq_true, ite_true, ite_false]
    · simp only [sF_pi, sF_pl, sF_ai, sF_al, sG_pi, sG_pl, sG_ai, sG_al, sI_pi, sI_pl, sI_al, sI_ai1, sI_ai2, sJ_pi, sJ_pl, sJ_ai, sJ_al1, sJ_al2, Nat.reduceEqDiff, if_true, if_false, ne_eq, not_false_eq_true, ite_true, ite_false]
    · intro k m k1 k2 k3
      rw [sI_ai1 k3, sI_ai1 k2, sI_pi, sI_pi, sI_ai1 k1, sI_pi]
    · intro m m0 m1
      simp (disch := lia) only [sF_pi, sF_pl, sF_ai, sF_al, sG_pi, sG_pl, sG_ai, sG_al, sI_pi, sI_pl, sI_al, sI_ai1, sI_ai2, sJ_pi, sJ_pl, sJ_ai, sJ_al1, sJ_al2, Nat.reduceEqDiff, if_true, if_false, ne_eq, not_false_eq_true, ite_true, ite_false, sI_ai]
      rw [if_neg (fun q => m1 q.2), if_neg (fun q => m1 q.2)]
      exact ⟨rfl, rfl⟩
    · simp only [sF_pi, sF_pl, sF_ai, sF_al, sG_pi, sG_pl, sG_ai, sG_al, sI_pi, sI_pl, sI_al, sI_ai1, sI_ai2, sJ_pi, sJ_pl, sJ_ai, sJ_al1, sJ_al2, Nat.reduceEqDiff, if_true, if_false, ne_eq, not_false_eq_true, ite_true, ite_false]
    · simp only [sF_pi, sF_pl, sF_ai, sF_al, sG_pi, sG_pl, sG_ai, sG_al, sI_pi, sI_pl, sI_al, sI_ai1, sI_ai2, sJ_pi, sJ_pl, sJ_ai, sJ_al1, sJ_al2, Nat.reduceEqDiff, if_true, if_false, ne_eq, not_false_eq_true, ite_true, ite_false]
    · simp only [sF_pi, sF_pl, sF_ai, sF_al, sG_pi, sG_pl, sG_ai, sG_al, sI_pi, sI_pl, sI_al, sI_ai1, sI_ai2, sJ_pi, sJ_pl, sJ_ai, sJ_al1, sJ_al2, Nat.reduceEqDiff, if_true, if_false, ne_eq, not_false_eq_true, ite_true, ite_false]
      refine al _ _ ?_ (fun _ => ⟨rfl, fun x x0 x1 x2 => ?_⟩) (fun q => absurd hb1 q)
      · simp (disch := lia) only [sF_pi, sF_pl, sF_ai, sF_al, sG_pi, sG_pl, sG_ai, sG_al, sI_pi, sI_pl, sI_al, sI_ai1, sI_ai2, sJ_pi, sJ_pl, sJ_ai, sJ_al1, sJ_al2, Nat.reduceEqDiff, if_true, if_false, ne_eq, not_false_eq_true, ite_true, ite_false]
      · simp (disch := lia) only [sF_pi, sF_pl, sF_ai, sF_al, sG_pi, sG_pl, sG_ai, sG_al, sI_pi, sI_pl, sI_al, sI_ai1, sI_ai2, sJ_pi, sJ_pl, sJ_ai, sJ_al1, sJ_al2, Nat.reduceEqDiff, if_true, if_false, ne_eq, not_false_eq_true, ite_true, ite_false, sI_ai]
        rw [if_neg (fun q => x2 q.2)]
  · have hb2 : 0 ≤ sF σ 138 ∧ sF σ 138 < 12000 ∧ sF σ 138 ≠ h := by
      rcases hb with hb | hb
      · exact absurd hb hb1
      · exact hb
    obtain ⟨hb2, hb3, hb4⟩ := hb2
    simp (disch := lia) only [xx2_make, xx2_make_b79, lt, gd_in, if_pos, if_neg, ↓reduceIte, gd_z0, gd_z1, gd_tt, sF_fold, sG_fold, sI_fold, sJ_fold, sF_pi, sF_pl, sF_ai, sF_al, sG_pi, sG_pl, sG_ai, sG_al, sI_pi, sI_pl, sI_al, sI_ai1, sI_ai2, sJ_pi, sJ_pl, sJ_ai, sJ_al1, sJ_al2, Nat.reduceEqDiff, if_true, if_false, ne_eq, not_false_eq_true, ite_true, ite_false, e2', hb1]
    refine key _ (fr_ai (fr_ai (fr_pi (fr_ai (fr_ai (fr_pi fr_rfl rfl) rfl) rfl) rfl) rfl) rfl) ?_ ?_ ?_ ?_ ?_ ?_ ?_ ?_ ?_ ?_ ?_
    · simp only [sF_pi, sF_pl, sF_ai, sF_al, sG_pi, sG_pl, sG_ai, sG_al, sI_pi, sI_pl, sI_al, sI_ai1, sI_ai2, sJ_pi, sJ_pl, sJ_ai, sJ_al1, sJ_al2, Nat.reduceEqDiff, if_true, if_false, ne_eq, not_false_eq_true, ite_true, ite_false]
    · simp only [sF_pi, sF_pl, sF_ai, sF_al, sG_pi, sG_pl, sG_ai, sG_al, sI_pi, sI_pl, sI_al, sI_ai1, sI_ai2, sJ_pi, sJ_pl, sJ_ai, sJ_al1, sJ_al2, Nat.reduceEqDiff, if_true, if_false, ne_eq, not_false_eq_true, ite_true, ite_false]
    · simp only [sF_pi, sF_pl, sF_ai, sF_al, sG_pi, sG_pl, sG_ai, sG_al, sI_pi, sI_pl, sI_al, sI_ai1, sI_ai2, sJ_pi, sJ_pl, sJ_ai, sJ_al1, sJ_al2, Nat.reduceEqDiff, if_true, if_false, ne_eq, not_false_eq_true, ite_true, ite_false]
    · simp only [sF_pi, sF_pl, sF_ai, sF_al, sG_pi, sG_pl, sG_ai, sG_al, sI_pi, sI_pl, sI_al, sI_ai1, sI_ai2, sJ_pi, sJ_pl, sJ_ai, sJ_al1, sJ_al2, Nat.reduceEqDiff, if_true, if_false, ne_eq, not_false_eq_true, ite_true, ite_false]
    · simp only [sF_pi, sF_pl, sF_ai, sF_al, sG_pi, sG_pl, sG_ai, sG_al, sI_pi, sI_pl, sI_al, sI_ai1, sI_ai2, sJ_pi, sJ_pl, sJ_ai, sJ_al1, sJ_al2, Nat.reduceEqDiff, if_true, if_false, ne_eq, not_false_eq_true, ite_true, ite_false]
    · simp only [sF_pi, sF_pl, sF_ai, sF_al, sG_pi, sG_pl, sG_ai, sG_al, sI_pi, sI_pl, sI_al, sI_ai1, sI_ai2, sJ_pi, sJ_pl, sJ_ai, sJ_al1, sJ_al2, Nat.reduceEqDiff, if_true, if_false, ne_eq, not_false_eq_true, ite_true, ite_false]
    · intro k m k1 k2 k3
      rw [sI_ai1 k3, sI_ai1 k2, sI_pi, sI_ai1 k1, sI_ai1 k1, sI_pi]
    · intro m m0 m1
      simp (disch := lia) only [sF_pi, sF_pl, sF_ai, sF_al, sG_pi, sG_pl, sG_ai, sG_al, sI_pi, sI_pl, sI_al, sI_ai1, sI_ai2, sJ_pi, sJ_pl, sJ_ai, sJ_al1, sJ_al2, Nat.reduceEqDiff, if_true, if_false, ne_eq, not_false_eq_true, ite_true, ite_false, sI_ai]
      rw [if_neg (fun q => m1 q.2), if_neg (fun q => m1 q.2)]
      exact ⟨rfl, rfl⟩
    · simp only [sF_pi, sF_pl, sF_ai, sF_al, sG_pi, sG_pl, sG_ai, sG_al, sI_pi, sI_pl, sI_al, sI_ai1, sI_ai2, sJ_pi, sJ_pl, sJ_ai, sJ_al1, sJ_al2, Nat.reduceEqDiff, if_true, if_false, ne_eq, not_false_eq_true, ite_true, ite_false]
    · simp only [sF_pi, sF_pl, sF_ai, sF_al, sG_pi, sG_pl, sG_ai, sG_al, sI_pi, sI_pl, sI_al, sI_ai1, sI_ai2, sJ_pi, sJ_pl, sJ_ai, sJ_al1, sJ_al2, Nat.reduceEqDiff, if_true, if_false, ne_eq, not_false_eq_true, ite_true, ite_false]
    · simp only [sF_pi, sF_pl, sF_ai, sF_al, sG_pi, sG_pl, sG_ai, sG_al, sI_pi, sI_pl, sI_al, sI_ai1, sI_ai2, sJ_pi, sJ_pl, sJ_ai, sJ_al1, sJ_al2, Nat.reduceEqDiff, if_true, if_false, ne_eq, not_false_eq_true, ite_true, ite_false]
      refine al _ _ ?_ (fun q => absurd q hb1) (fun _ => ⟨rfl, ?_, fun x x0 x1 x2 x3 => ?_⟩)
      · simp (disch := lia) only [sF_pi, sF_pl, sF_ai, sF_al, sG_pi, sG_pl, sG_ai, sG_al, sI_pi, sI_pl, sI_al, sI_ai1, sI_ai2, sJ_pi, sJ_pl, sJ_ai, sJ_al1, sJ_al2, Nat.reduceEqDiff, if_true, if_false, ne_eq, not_false_eq_true, ite_true, ite_false, sI_ai, true_and, if_neg]
      · simp (disch := lia) only [sF_pi, sF_pl, sF_ai, sF_al, sG_pi, sG_pl, sG_ai, sG_al, sI_pi, sI_pl, sI_al, sI_ai1, sI_ai2, sJ_pi, sJ_pl, sJ_ai, sJ_al1, sJ_al2, Nat.reduceEqDiff, if_true, if_false, ne_eq, not_false_eq_true, ite_true, ite_false]
      · simp (disch := lia) only [sF_pi, sF_pl, sF_ai, sF_al, sG_pi, sG_pl, sG_ai, sG_al, sI_pi, sI_pl, sI_al, sI_ai1, sI_ai2, sJ_pi, sJ_pl, sJ_ai, sJ_al1, sJ_al2, Nat.reduceEqDiff, if_true, if_false, ne_eq, not_false_eq_true, ite_true, ite_false, sI_ai]
        rw [if_neg (fun q => x3 q.2), if_neg (fun q => x2 q.2)]
