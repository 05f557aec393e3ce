/-! LAYER 2: the reference's tables: hole, length -/
def hm3 (k : Nat) : Bool := [25, 26, 27].contains k
theorem mf_mlv {P : Nat → Bool} {σ τ : mS} (fr : m_fr P σ τ) (p1 : P 32 = false) (p2 : P 33 = false) (p3 : P 34 = false) {l : List Int32} {k : Int32} : mlv τ l k ↔ mlv σ l k := by
  simp only [mlv, mf_I fr p1, mf_J fr p2, mf_I fr p3]
theorem hm_mv {σ τ : mS} {l : List Int32} {h : Int32 → Int32} {c K ke : Int32} (lv : ∀ k, mlv τ l k ↔ mlv σ l k) (H : HMe σ l h c K ke) : HMe τ l h c K ke := by
  simp only [HMe, lv] at H ⊢
  exact H
/-- what hole changes: the holes of t alone -/
def ho_oth (σ τ : mS) (t : Int32) : Prop := ∀ s, 0 ≤ s → s < 3000 → s ≠ t → sI τ 25 s = sI σ 25 s ∧ sI τ 27 s = sI σ 27 s ∧ ∀ i, 0 ≤ i → i < 16 → mh τ s i = mh σ s i
theorem hole_m {N : Nat} (hN : BIG ≤ N) {σ : mS} {l : List Int32} {t key op : Int32} (t0 : 0 ≤ t) (t1 : t < 3000) (H : HMe σ l (mh σ t) (sI σ 27 t) (sI σ 25 t) key) (k1 : 1 ≤ key) (kK : key ≤ sI σ 25 t) (h0 : op = 0 → mlv σ l key ∧ ∃ i, 0 ≤ i ∧ i < sI σ 27 t ∧ mh σ t i = key) (h1 : op ≠ 0 → ¬ mlv σ l key ∧ ∀ i, 0 ≤ i → i < sI σ 27 t → mh σ t i ≠ key) : ∃ τ, mm_hole N σ t key op = some τ ∧ HM τ l t ∧ ho_oth σ τ t ∧ m_fr hm3 σ τ := by
  obtain ⟨c0, c1⟩ : 0 ≤ sI σ 27 t ∧ sI σ 27 t ≤ 16 := ⟨H.2.2.1, H.2.2.2.1⟩
  obtain ⟨p, p0, p1, p2, p3, p4⟩ := hol_p (N := N) (key := key) (op := op) t0 t1 c0 c1 N 0 (by decide) c0 (big_d hN) (fun j a b => by lia)
  have pre : mm_hole N σ t key op = mm_hole_40 N t key op (16 * t) p σ := p2
  rw [pre]
  have rise := H.2.2.2.2.2.1
  generalize hc : sI σ 27 t = c at *
  -- rows of others
  have othr : ∀ (g : Nat → Int32) (m : Int32), m ≤ 15 → 0 ≤ m → (∀ x, 0 ≤ x → x < 16 * t ∨ 16 * t + m < x → g x.toNatClampNeg = sI σ 26 x) → ∀ s, 0 ≤ s → s < 3000 → s ≠ t → ∀ i, 0 ≤ i → i < 16 → g (16 * s + i).toNatClampNeg = mh σ s i := by
    intro g m m1 m0 hg s s0 s1 s2 i i0 i1
    refine hg _ (by lia) ?_
    rcases (by lia : s < t ∨ t < s) with w | w
    · left; lia
    · right; lia
  by_cases o : op = 0
  · obtain ⟨lv, i, i0, i1, i2⟩ := h0 o
    have pi : p = i := by
      rcases (by lia : p < i ∨ i < p ∨ p = i) with w | w | w
      · have a := p4 (by lia)
        have b := rise p i p0 w i1
        lia
      · have a := p3 i i0 w
        lia
      · exact w
    subst pi
    obtain ⟨g, g1, g2, g3⟩ := hol_l (N := N) (σ := md_ai σ 27 t.toNatClampNeg (c - 1)) (p := p) t0 t1 (m := c - 1) (by rw [sI_ai2]) (by lia) p0 N p (by lia) (by lia) (big_d hN) (σ.2.2.1 26) (fun j j0 j1 => by
      rw [if_pos j1]
      simp only [mh]
      rw [sI_ai1 (by decide)]; rfl) (fun x _ _ => by rw [sI_ai1 (by decide)]; rfl)
    have e0 : md_row (md_ai σ 27 t.toNatClampNeg (c - 1)) 26 (σ.2.2.1 26) = md_ai σ 27 t.toNatClampNeg (c - 1) := row_id (σ := md_ai σ 27 t.toNatClampNeg (c - 1))
    rw [e0] at g1
    have mhe : ∀ s j, mh (md_ai σ 27 t.toNatClampNeg (c - 1)) s j = mh σ s j := fun s j => by simp only [mh]; rw [sI_ai1 (by decide)]
    have fr : m_fr hm3 σ (md_row (md_ai σ 27 t.toNatClampNeg (c - 1)) 26 g) := mf_row (mf_ai mf_rfl rfl) rfl
    refine ⟨md_row (md_ai σ 27 t.toNatClampNeg (c - 1)) 26 g, ?_, ?_, fun s s0 s1 s2 => ⟨?_, ?_, fun i i0 i1 => ?_⟩, fr⟩
    · clear H h0 h1 p3 p4 rise othr g2 g3
      simp (disch := lia) only [mm_hole_40, lt, gd_in, if_pos, if_neg, ↓reduceIte, gd_z0, gd_z1, gd_tt, sF_fold, sG_fold, sI_fold, sJ_fold, hc, o]
      exact g1
    · have := hm_del H lv p0 i1 i2
      simp only [HM]
      rw [sI_row1 (by decide), sI_ai2, sI_row1 (by decide), sI_ai1 (by decide)]
      refine hmc (hm_mv (fun k => mf_mlv fr rfl rfl rfl) this) (fun i i0 i1 => ?_)
      simp only [mh]
      rw [sI_row2, g2 i i0 i1, mhe, mhe]
      rfl
    · rw [sI_row1 (by decide), sI_ai1 (by decide)]
    · rw [sI_row1 (by decide), sI_ai t0 s0, if_neg (fun q => s2 q.2)]
    · have := othr g (c - 1) (by lia) (by lia) (fun x x0 x1 => by rw [g3 x x0 (by lia), sI_ai1 (by decide)]) s s0 s1 s2 i i0 i1
      simp only [mh] at this ⊢
      rw [sI_row2, this]
  · obtain ⟨nlv, nh⟩ := h1 o
    have hi : ∀ i, p ≤ i → i < c → key < mh σ t i := by
      intro i i0 i1
      have a := p4 (by lia)
      have b := nh i (by lia) i1
      by_cases w : i = p
      · subst w; lia
      · have := rise p i p0 (by lia) i1; lia
    -- inserting into m holes of a state
    have ins : ∀ (σ1 : mS) (m K : Int32), m_fr hm3 σ σ1 → (∀ x, sI σ1 26 x = sI σ 26 x) → sI σ1 27 t = m → sI σ1 25 t = K → (∀ s, 0 ≤ s → s ≠ t → sI σ1 25 s = sI σ 25 s ∧ sI σ1 27 s = sI σ 27 s) → p ≤ m → m < 16 → 0 ≤ m → m ≤ c → HMe σ l (mh σ t) m K key → key ≤ K → ∃ τ, mm_hole_158 N t key (16 * t) p σ1 = some τ ∧ HM τ l t ∧ ho_oth σ τ t ∧ m_fr hm3 σ τ := by
      intro σ1 m K fr1 e26 e27 e25 oth pm m1 m0 mc HH kk
      have mhe : ∀ s j, mh σ1 s j = mh σ s j := fun s j => e26 _
      obtain ⟨g, g1, g2, g3⟩ := hol_r (N := N) (σ := σ1) (key := key) t0 t1 e27 m1 p0 N m pm (by lia) (big_d hN) (σ1.2.2.1 26) (fun j a b => by lia) (fun x _ _ => rfl)
      rw [row_id] at g1
      have fr : m_fr hm3 σ (md_ai (md_row σ1 26 g) 27 t.toNatClampNeg (m + 1)) := mf_ai (mf_row fr1 rfl) rfl
      refine ⟨md_ai (md_row σ1 26 g) 27 t.toNatClampNeg (m + 1), ?_, ?_, fun s s0 s1 s2 => ⟨?_, ?_, fun i i0 i1 => ?_⟩, fr⟩
      · rw [mm_hole_158, gd_in (by decide) t0 t1, lt, sI_fold, e27]
        exact g1
      · have := hm_ins HH nlv m1 k1 kk p0 pm p3 (fun i i0 i1 => hi i i0 (by lia))
        simp only [HM]
        rw [sI_ai2, sI_ai1 (by decide), sI_row1 (by decide), e25]
        refine hmc (hm_mv (fun k => mf_mlv fr rfl rfl rfl) this) (fun i i0 i1 => ?_)
        simp only [mh]
        rw [sI_ai1 (by decide), sI_row2, g2 i i0 (by lia), mhe, mhe]
        rfl
      · rw [sI_ai1 (by decide), sI_row1 (by decide)]; exact (oth s s0 s2).1
      · rw [sI_ai t0 s0, if_neg (fun q => s2 q.2), sI_row1 (by decide)]; exact (oth s s0 s2).2
      · have := othr g m (by lia) m0 (fun x x0 x1 => by rw [g3 x x0 x1]; exact e26 x) s s0 s1 s2 i i0 i1
        simp only [mh] at this ⊢
        rw [sI_ai1 (by decide), sI_row2, this]
    by_cases c16 : c = 16
    · by_cases pp : p = 16
      · -- the key lies behind all holes
        refine ⟨md_ai σ 25 t.toNatClampNeg (key - 1), ?_, ?_, fun s s0 s1 s2 => ⟨?_, ?_, fun i i0 i1 => ?_⟩, mf_ai mf_rfl rfl⟩
        · clear H h0 h1 p3 p4 rise othr ins hi nh
          simp (disch := lia) only [mm_hole_40, lt, gd_in, if_pos, if_neg, ↓reduceIte, gd_z0, gd_z1, gd_tt, sF_fold, sG_fold, sI_fold, sJ_fold, hc, o, c16, pp]
        · simp only [HM]
          rw [sI_ai1 (by decide), sI_ai2, hc]
          have mhe : mh (md_ai σ 25 t.toNatClampNeg (key - 1)) t = mh σ t := by funext j; simp only [mh]; rw [sI_ai1 (by decide)]
          rw [mhe]
          obtain ⟨a1, a2, a3, a4, a5, a6, a7, a8⟩ := H
          refine hm_mv (fun k => mf_mlv (mf_ai mf_rfl rfl : m_fr hm3 σ _) rfl rfl rfl) ⟨by lia, by lia, a3, a4, fun i i0 i1 => ⟨(a5 i i0 i1).1, by have := p3 i i0 (by lia); lia⟩, a6, fun k q0 q1 _ => a7 k q0 (by lia) (by lia), fun i i0 i1 _ => a8 i i0 i1 (nh i i0 i1)⟩
        · rw [sI_ai t0 s0, if_neg (fun q => s2 q.2)]
        · rw [sI_ai1 (by decide)]
        · simp only [mh]; rw [sI_ai1 (by decide)]
      · have hcut := hm_cut H (by lia)
        have kk : key ≤ mh σ t (c - 1) - 1 := by have := hi (c - 1) (by lia) (by lia); lia
        obtain ⟨τ, r1, r2, r3, r4⟩ := ins (md_ai (md_ai σ 27 t.toNatClampNeg (c - 1)) 25 t.toNatClampNeg (mh σ t (c - 1) - 1)) (c - 1) (mh σ t (c - 1) - 1) (mf_ai (mf_ai mf_rfl rfl) rfl) (fun x => by rw [sI_ai1 (by decide), sI_ai1 (by decide)]) (by rw [sI_ai1 (by decide), sI_ai2]) (by rw [sI_ai2]) (fun s s0 s2 => ⟨by rw [sI_ai t0 s0, if_neg (fun q => s2 q.2), sI_ai1 (by decide)], by rw [sI_ai1 (by decide), sI_ai t0 s0, if_neg (fun q => s2 q.2)]⟩) (by lia) (by lia) (by lia) (by lia) hcut kk
        refine ⟨τ, ?_, r2, r3, r4⟩
        have e15 : mh σ t (c - 1) = sI σ 26 (16 * t + (c - 1)) := rfl
        clear H h0 h1 p3 p4 rise othr ins hi nh r2 r3 hcut
        rw [e15] at r1
        simp (disch := lia) only [mm_hole_40, lt, gd_in, if_pos, if_neg, ↓reduceIte, gd_z0, gd_z1, gd_tt, sF_fold, sG_fold, sI_fold, sJ_fold, sF_pi, sF_pl, sF_ai, sF_al, sG_pi, sG_pl, sG_ai, sG_al, sI_pi, sI_pl, sI_al, sI_ai1, sI_ai2, sJ_pi, sJ_pl, sJ_ai, sJ_al1, sJ_al2, Nat.reduceEqDiff, if_true, if_false, ne_eq, not_false_eq_true, ite_true, ite_false, hc, o, c16, pp] at r1 ⊢
        exact r1
    · obtain ⟨τ, r1, r2, r3, r4⟩ := ins σ c (sI σ 25 t) mf_rfl (fun _ => rfl) hc rfl (fun _ _ _ => ⟨rfl, rfl⟩) p1 (by lia) c0 (by lia) H kK
      refine ⟨τ, ?_, r2, r3, r4⟩
      clear H h0 h1 p3 p4 rise othr ins hi nh r2 r3
      simp (disch := lia) only [mm_hole_40, lt, gd_in, if_pos, if_neg, ↓reduceIte, gd_z0, gd_z1, gd_tt, sF_fold, sG_fold, sI_fold, sJ_fold, hc, o, c16]
      exact r1
