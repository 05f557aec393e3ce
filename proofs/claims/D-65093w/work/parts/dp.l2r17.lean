/-! LAYER 2: step rules: a handler of one of two -/
theorem hnm_42 : ∀ k, k < 21 → hK (hnm.getD k 0) = false := by decide
theorem nm_gt {μ : mS} {a : Int32} {b : Int64} {k : Nat} (hk : k < 21) : sF (gt μ a b) (hnm.getD k 0) = sF μ (hnm.getD k 0) := mf_F gt_fr (hnm_42 k hk)
theorem ch_1 {P : Int32} (P0 : 0 ≤ P) (P1 : P ≤ 480000) : ¬ P = P + 1 ∧ ¬ P = P + 2 ∧ ¬ P + 1 = P + 2 ∧ ¬ P + 1 = P ∧ ¬ P + 2 = P + 1 ∧ ¬ P + 2 = P := ⟨by lia, by lia, by lia, by lia, by lia, by lia⟩
/-- the handler is put before the two, and called -/
theorem callH_45 {N : Nat} {μ : mS} {k0 P th c t1 t2 : Int32} {d v1 v2 : Int64} (P0 : 0 ≤ P) (P1 : P ≤ 480000) (h42 : sF μ 42 = c) (h43 : sG μ 43 = d) (nc : c ≠ 0) (c0 : 0 ≤ c) (c8 : c ≤ 8) (top : sF μ 143 = P + 2) (a1 : sI μ 141 P = t1) (a2 : sJ μ 142 P = v1) (a3 : sI μ 141 (P + 1) = t2) (a4 : sJ μ 142 (P + 1) = v2) (b1 : 0 ≤ t1 ∧ t1 ≤ 8) (b2 : 0 ≤ t2 ∧ t2 ≤ 8) : ∃ τ, mm_callHandler_45 N P th μ = bd (mm_call N τ P 2 1 th) (fun z6 => gd (zB 1) (some ((1, z6) : Int32 × mS))) ∧ sF τ 143 = P + 3 ∧ mtc k0 P μ τ ∧ m_fr (fun k => [141, 142, 143, 153].contains k) μ τ ∧ (sI τ 141 P = c ∧ sJ τ 142 P = d) ∧ (sI τ 141 (P + 1) = t1 ∧ sJ τ 142 (P + 1) = v1) ∧ (sI τ 141 (P + 2) = t2 ∧ sJ τ 142 (P + 2) = v2) := by
  have bb := bnd3 P0 P1
  obtain ⟨n1, n2, n3, n4, n5, n6⟩ := ch_1 P0 P1
  have q0 : 0 ≤ sF μ 143 := by rw [top]; exact bb.2.2.1.1
  have ps := push_mP (N := N) (t := t2) (v := v2) top bb.2.2.1.1 bb.2.2.1.2 b2.1 b2.2
  have w1 : m_fr (fun k => [141, 142, 143, 153].contains k) (mPu μ t2 v2) (mW (mPu μ t2 v2) (P + 1) t1 v1) := mf_mono mW_fr (fun k hk => by
    simp only [List.contains_cons, List.contains_nil, Bool.or_eq_false_iff, beq_eq_false_iff_ne] at hk ⊢
    (repeat' (first | exact trivial | omega | apply And.intro)))
  have w2 : m_fr (fun k => [141, 142, 143, 153].contains k) (mW (mPu μ t2 v2) (P + 1) t1 v1) (mW (mW (mPu μ t2 v2) (P + 1) t1 v1) P c d) := mf_mono mW_fr (fun k hk => by
    simp only [List.contains_cons, List.contains_nil, Bool.or_eq_false_iff, beq_eq_false_iff_ne] at hk ⊢
    (repeat' (first | exact trivial | omega | apply And.intro)))
  refine ⟨mW (mW (mPu μ t2 v2) (P + 1) t1 v1) P c d, ?_, ?_, mtc_tr (mPu_y q0 (by rw [top]; lia)) (mtc_tr (mW_tc bb.2.1.1 (by lia)) (mW_tc P0 (Int32.le_refl _))), mf_tr mPu_fr (mf_tr w1 w2), ?_, ?_, ?_⟩
  · have e1 : μ.2.2.1 141 (P + 1).toNatClampNeg = t2 := a3
    have e2 : μ.2.2.2 142 (P + 1).toNatClampNeg = v2 := a4
    have e3 : (mPu μ t2 v2).2.2.1 141 P.toNatClampNeg = t1 := by
      have : sI (mPu μ t2 v2) 141 P = t1 := by rw [mPu_I q0 P0, top, if_neg n2]; exact a1
      exact this
    have e4 : (md_ai (mPu μ t2 v2) 141 (P + 1).toNatClampNeg t1).2.2.2 142 P.toNatClampNeg = v1 := by
      have : sJ (mPu μ t2 v2) 142 P = v1 := by rw [mPu_J q0 P0, top, if_neg n2]; exact a2
      exact this
    have nb : vp_nar .byte t1 = t1 := tag_b b1.1 b1.2
    rw [mm_callHandler_45, show μ.1 42 = c from h42, if_neg nc, gd_in (by decide) bb.2.1.1 bb.2.1.2, gd_in (by decide) bb.2.1.1 bb.2.1.2, e1, e2, ps, bd_so, gd_in (by decide) bb.1.1 bb.1.2, gd_in (by decide) bb.2.1.1 bb.2.1.2, e3, nb, lt, gd_in (by decide) bb.1.1 bb.1.2, gd_in (by decide) bb.2.1.1 bb.2.1.2, e4, lt]
    rw [show (md_al (md_ai (mPu μ t2 v2) 141 (P + 1).toNatClampNeg t1) 142 (P + 1).toNatClampNeg v1) = mW (mPu μ t2 v2) (P + 1) t1 v1 from rfl]
    rw [gd_in (by decide) bb.1.1 bb.1.2, show (mW (mPu μ t2 v2) (P + 1) t1 v1).1 42 = c from h42, nar_tag c0 c8, lt, gd_in (by decide) bb.1.1 bb.1.2, show (md_ai (mW (mPu μ t2 v2) (P + 1) t1 v1) 141 P.toNatClampNeg c).2.1 43 = d from h43, lt]
    rfl
  · exact (mf_F mW_fr rfl).trans ((mf_F mW_fr rfl).trans (by rw [mPu_143, top]; lia))
  · rw [mW_I P0 P0, mW_J P0 P0, if_pos rfl, if_pos rfl]; exact ⟨rfl, rfl⟩
  · rw [mW_I P0 bb.2.1.1, mW_J P0 bb.2.1.1, if_neg n4, if_neg n4, mW_I bb.2.1.1 bb.2.1.1, mW_J bb.2.1.1 bb.2.1.1, if_pos rfl, if_pos rfl]; exact ⟨rfl, rfl⟩
  · rw [mW_I P0 bb.2.2.1.1, mW_J P0 bb.2.2.1.1, if_neg n6, if_neg n6, mW_I bb.2.1.1 bb.2.2.1.1, mW_J bb.2.1.1 bb.2.2.1.1, if_neg n5, if_neg n5, mPu_I q0 bb.2.2.1.1, mPu_J q0 bb.2.2.1.1, top, if_pos rfl, if_pos rfl]; exact ⟨rfl, rfl⟩
theorem eh_2 {e : EV} {w : WD} {xf : Int32 → List Int32} {c d : Int32} {rest : PL2} {f : Int32} {fl : List Int32} {ρ : List Int32} {g p q F n : Int32} {σ μ : mS} {M rk : Nat} {P a b t1' t2' live md r th : Int32} {v1' v2' : Int64} (C : CXT e M F n rk) (zk' : zk e g ρ) (S : ST e w xf c d rest f fl ρ (-1) g p q F n σ (md_pi μ 143 P)) (L : LE σ (mff μ) f (n - 1)) (V : LVd σ f ρ live) (P0 : 0 ≤ P) (P1 : P ≤ 480000) (a0 : 0 ≤ a) (aR : a < sI (eσ e) 261 g) (b0 : 0 ≤ b) (bR : b < sI (eσ e) 261 g) (w1 : VV w (xt σ f a) (xv σ f a) t1' v1') (w2 : VV w (xt σ f b) (xv σ f b) t2' v2') (top : sF μ 143 = P + 2) (a1 : sI μ 141 P = t1') (a2 : sJ μ 142 P = v1') (a3 : sI μ 141 (P + 1) = t2') (a4 : sJ μ 142 (P + 1) = v2') {k : Nat} (hk : k < 21) (ct : ctS (eS e) (sI (eσ e) 261 g) g p q ρ md r 1 1 th) : (xx6_eitherHandler (eN e) σ a b (Int32.ofNat k) = some (-1, σ) ∧ mm_callHandler (eN e) μ P (sF μ (hnm.getD k 0)) th = some (0, gt μ 0 0)) ∨ (∃ h τm, (0 ≤ h ∧ h < 20000) ∧ xx6_eitherHandler (eN e) σ a b (Int32.ofNat k) = some (h, σ) ∧ mm_callHandler (eN e) μ P (sF μ (hnm.getD k 0)) th = bd (mm_call (eN e) τm P 2 1 th) (fun z6 => gd (zB 1) (some ((1, z6) : Int32 × mS))) ∧ G2 e 1000 (M + 1) (xx6_handle (eN e) σ h (xt σ f a) (xv σ f a) (xt σ f b) (xv σ f b) md r live) (mm_call (eN e) τm P 2 1 th)) := by
  obtain ⟨E, hM, Z, EK, LB, G, HGs, GR⟩ := id C
  have bb := bnd3 P0 P1
  have H0 := (MR_pi S.1).1
  have b1 := (VV_t8 w1).2
  have b2 := (VV_t8 w2).2
  have e1 : μ.2.2.1 141 P.toNatClampNeg = t1' := a1
  have e2 : μ.2.2.2 142 P.toNatClampNeg = v1' := a2
  -- some handler is called
  have fin : ∀ (h c' : Int32) (d' : Int64), 0 ≤ h → h < 20000 → c' ≠ 0 → VV w (sI σ 214 h) (sJ σ 215 h) c' d' → ∃ τm, mm_callHandler_45 (eN e) P th (gt μ c' d') = bd (mm_call (eN e) τm P 2 1 th) (fun z6 => gd (zB 1) (some ((1, z6) : Int32 × mS))) ∧ G2 e 1000 (M + 1) (xx6_handle (eN e) σ h (xt σ f a) (xv σ f a) (xt σ f b) (xv σ f b) md r live) (mm_call (eN e) τm P 2 1 th) := by
    intro h c' d' h0 h1 nc hv
    have t8 := (VV_t8 hv).2
    obtain ⟨τm, k1, k2, y, fr3, ⟨r1, r2⟩, ⟨r3, r4⟩, ⟨r5, r6⟩⟩ := callH_45 (N := eN e) (k0 := n - 1) (th := th) (μ := gt μ c' d') (t1 := t1') (v1 := v1') (t2 := t2') (v2 := v2') P0 P1 gt_42 gt_43 nc t8.1 t8.2 top a1 a2 a3 a4 b1 b2
    have S2 := ST_gt (c' := c') (d' := d') S
    have hP : P = mff (md_pi (gt μ c' d') 143 P) (n - 1) 3 + Int32.ofNat ρ.length := by
      have T := S2.1.1.2
      rw [S2.1.2.2.2.2.2] at T
      exact (TP_1 T).2
    have hq : mff τm (n - 1) 2 = q := by
      have := S2.1.2.2.2.1
      rw [S2.1.2.2.2.2.2] at this
      exact (mf_I fr3 rfl).trans this
    have e8 : mff τm (n - 1) 8 = mff (gt μ c' d') (n - 1) 8 := mf_I (k := 152) fr3 rfl
    exact ⟨τm, k1, handle_S C S2.1 zk'.1 hP (mtc_tr m143_bk y) hq e8 L V h0 h1 (by rw [r1, r2]; exact hv) (by rw [r3, r4]; exact w1) (by rw [r5, r6]; exact w2) k2 ct⟩
  have S0 := S
  obtain ⟨h, c', d', x1, m1, o⟩ := handler_2 (EV_N E) H0.1.1.1 H0.1.2.2.1 w1 hk
  rw [xx6_eitherHandler, (rd_r S a0 aR).1, bd_so, (rd_r S a0 aR).2, bd_so, x1, bd_so, mm_callHandler, gd_in (by decide) bb.1.1 bb.1.2, gd_in (by decide) bb.1.1 bb.1.2, e1, e2, m1, bd_so, show (gt μ c' d').1 42 = c' from gt_42 (μ := μ) (c := c') (d := d')]
  rcases o with ⟨rfl, rfl, rfl⟩ | ⟨h0, h1, n214, nc, hv⟩
  · have H1 := (MR_pi (ST_gt (c' := 0) (d' := 0) S).1).1
    obtain ⟨h, c', d', x2, m2, o⟩ := handler_2 (EV_N E) H1.1.1.1 H1.1.2.2.1 w2 hk
    rw [nm_gt hk, gt_2] at m2
    have e3 : (gt μ 0 0).2.2.1 141 (P + 1).toNatClampNeg = t2' := a3
    have e4 : (gt μ 0 0).2.2.2 142 (P + 1).toNatClampNeg = v2' := a4
    rw [if_pos rfl, if_pos rfl, (rd_r S b0 bR).1, bd_so, (rd_r S b0 bR).2, bd_so, x2, bd_so, gd_in (by decide) bb.2.1.1 bb.2.1.2, gd_in (by decide) bb.2.1.1 bb.2.1.2, e3, e4, m2, bd_so]
    rcases o with ⟨rfl, rfl, rfl⟩ | ⟨h0, h1, n214, nc, hv⟩
    · refine .inl ⟨rfl, ?_⟩
      rw [mm_callHandler_45, show (gt μ 0 0).1 42 = 0 from gt_42 (μ := μ) (c := 0) (d := 0), if_pos rfl]; rfl
    · obtain ⟨τm, k1, k2⟩ := fin h c' d' h0 h1 nc hv
      exact .inr ⟨h, τm, ⟨h0, h1⟩, rfl, k1, k2⟩
  · have h1' : ¬ h = -1 := fun q => by rw [q] at h0; exact absurd h0 (by decide)
    rw [if_neg h1', if_neg nc]
    obtain ⟨τm, k1, k2⟩ := fin h c' d' h0 h1 nc hv
    exact .inr ⟨h, τm, ⟨h0, h1⟩, rfl, k1, k2⟩
