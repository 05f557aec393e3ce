/-! LAYER 2: the two readers: one side, with a sign before it, read -/
/-- the reference reduces a sign of one side -/
theorem rdn_2 {N : Nat} {n p e : Int32} {t : Int32 → Int32} {A : Nat → Int} {w : WD} {o : Nat} {c : Int} {σ μ : mS} {x s l : Int32} (h : PS n t A w p e o c σ μ) (hc : c ≤ 600) (hx : sF μ 133 = x + 1) (x0 : 0 ≤ x.toInt) (x1 : x.toInt < 2048) (hs : sI μ 130 x = s) (hl : sI μ 131 x = l) (s0 : ¬ 0 ≤ s) : ∃ μ1 μ2, mm_reduce N μ = some μ2 ∧ mm_value N μ = some μ1 ∧ bd (em N (own s) 0 0 0 l (md_pi (md_pi μ1 133 x) 69 (sF μ1 69 - 1))) (fun z => k0 z) = some μ2 ∧ PSw n t A w p e o (c + 2) σ μ2 ∧ m_fr fOp μ μ1 ∧ m_fr fRd μ μ2 ∧ (sF μ2 133 = x ∧ sF μ2 69 = sF μ 69 - 1 ∧ sF μ2 125 = 0) := by
  have pn := PS_pn h
  have g : inB x 2048 = true := tI_in x0 (by omega)
  obtain ⟨μ1, e1, f1, p1⟩ := PS_Op h (value_o (N := N) (PS_RO h 1 (by omega))) (by omega) (by omega)
  have m1 := p1.2.2.2.2.2.1
  have m2 : MI A n.toInt (20 * p.toInt + (c + 1)) o (md_pi (md_pi μ1 133 x) 69 (sF μ1 69 - 1)) := MI_69 (MI_133 m1 x0)
  obtain ⟨ν', e2, f2, m3⟩ := MI_Op m2 (em_o (N := N) (a := own s) (b := 0) (c := 0) (d := 0) (l := l) (RO_fr (MI_RO m2) mf_rfl (Int.le_refl _) 1 (by omega))) (by omega) (by omega)
  have er : bd (em N (own s) 0 0 0 l (md_pi (md_pi μ1 133 x) 69 (sF μ1 69 - 1))) (fun z => k0 z) = some (md_pi ν' 125 0) := by rw [e2, bd_so]; rfl
  have m4 : MI A n.toInt (20 * p.toInt + (c + 1) + 1) o (md_pi ν' 125 0) := MI_fr m3 (mf_pi (P := fOp) mf_rfl rfl) MIp_Op (Int.le_refl _) m3.1.2 (Int.le_refl _) (by show tF ν' 75 ≤ _; omega)
  have fr : m_fr fRd μ (md_pi ν' 125 0) := mf_pi (mf_tr (mf_pi (mf_pi (rd_O f1) rfl) rfl) (rd_O f2)) rfl
  refine ⟨μ1, _, (red_neg e1 f1 hx g hs hl s0).trans er, e1, er, ?_, f1, fr, ⟨?_, ?_, rfl⟩⟩
  · refine PSw_fr (PS_w h) (P := fun _ => false) mf_rfl fr (fun _ _ => rfl) (fun k hk => ?_) (by omega) (BXr_up h.2.2.2.2.1 (by omega)) (by rw [show 20 * p.toInt + (c + 2) = 20 * p.toInt + (c + 1) + 1 from by omega]; exact m4)
    simp only [fRd, List.contains_cons, List.contains_nil, Bool.or_eq_false_iff, beq_eq_false_iff_ne]
    (repeat' (first | exact trivial | omega | apply And.intro))
  · show sF ν' 133 = x
    rw [mf_F f2 rfl]; rfl
  · show sF ν' 69 = _
    rw [mf_F f2 rfl, show sF (md_pi (md_pi μ1 133 x) 69 (sF μ1 69 - 1)) 69 = sF μ1 69 - 1 from rfl, mf_F f1 rfl]
/-- a sign of one side -/
theorem un_y {N : Nat} (hN : BIG ≤ N) {n p e : Int32} {t : Int32 → Int32} {A : Nat → Int} {o d dm f g : Nat} {w : WD} {c : Int} {σ μ : mS} {v : Int32} (H : CEx N n t A o) (h : PS n t A w p e (o + 1) c σ μ) (hc : c ≤ 400) (u : isUn (sF σ 707)) (hd : 20 * (o + 1) + 18 ≤ d) (hdm : 14 * (o + 1) + 8 ≤ dm) (v0 : 0 ≤ v.toInt) (hv : v ≤ sF μ 133) (h133 : tF μ 133 ≤ 12 * (39 - o) + 10) (hf : n.toInt - p.toInt < (f : Int) + 1) (hg : n.toInt - p.toInt < (g : Int) + 1 + 1) : RUx N n t A w (o + 1) c p σ μ (bxx10_unary N (rc_xx10_arguments N d) σ) (rc_expression N dm) (mm_expression_18 N (rc_expression N dm) (mm_expression_7 N (rc_expression N dm) (f + 1)) (g + 1 + 1) v μ) v := by
  have q := PS_584 h
  have pn := PS_pn h
  have tk := PS_tk h
  obtain ⟨x44, m69⟩ := o40 h.2.2.1
  obtain ⟨oa, ob, oc⟩ := h.2.2.1
  have uo := un_own u
  have h0 : 0 ≤ tF μ 133 := h.2.2.2.2.2.1.2.2.2.2.2.2.2.2.1
  have h1 : PS n t A w p e (o + 1) (c + 3) (md_ai (ndS σ 13) 579 (sF σ 584).toNatClampNeg (sF σ 707)) μ := PS_ai (PS_nd h 13 (by omega)) rfl
  have nd0 : ND (md_ai (ndS σ 13) 579 (sF σ 584).toNatClampNeg (sF σ 707)) (sF σ 584) 13 (-1) (-1) (sF σ 707) (-1) (LN t p) p (-1) := by
    have d := ND_new (σ := σ) (k := 13)
    have l1 : sF σ 709 = LN t p := h.1.2.2.2.1.1
    have l2 : sF σ 708 = p := h.1.2.2.1.1
    rw [nk13, l1, l2] at d
    exact ND_C d
  have kx0 : KX σ (md_ai (ndS σ 13) 579 (sF σ 584).toNatClampNeg (sF σ 707)) (-1) := KX_ai (KX_nd q.1.1 q.1.2).1 q.1.1 (Int32.le_refl _) (by omega)
  have c0 : sF σ 584 < sF (md_ai (ndS σ 13) 579 (sF σ 584).toNatClampNeg (sF σ 707)) 584 := (KX_nd (σ := σ) (k := 13) (r := -1) q.1.1 q.1.2).2.2
  have c5 : sF (md_ai (ndS σ 13) 579 (sF σ 584).toNatClampNeg (sF σ 707)) 590 = sF σ 590 := rfl
  have px0 : m_fr fPX σ (md_ai (ndS σ 13) 579 (sF σ 584).toNatClampNeg (sF σ 707)) := mf_ai (px_N ndS_fr) rfl
  have k707 : sF (md_ai (ndS σ 13) 579 (sF σ 584).toNatClampNeg (sF σ 707)) 707 = sF σ 707 := rfl
  have e44 : sF (md_ai (ndS σ 13) 579 (sF σ 584).toNatClampNeg (sF σ 707)) 644 = sF σ 644 := rfl
  have un45 := fun {r : Int32} {σ3 σ5 : mS} => un_45 (N := N) (T := rc_xx10_arguments N d) (k := sF σ 707) (r := r) (σ := σ) (σ3 := σ3) (σ5 := σ5) q.2.1
  generalize md_ai (ndS σ 13) 579 (sF σ 584).toNatClampNeg (sF σ 707) = σ2 at *
  obtain ⟨σ3, μ3, p3, e3, r1, r2, w3, pp, f3, g3, ⟨z1, z2, z3⟩, ⟨s1, s2, s3⟩, s4⟩ := psh_2 hN (y := sF μ 69 + 1) (s := -1 - sF μ 60) (l := sF μ 63) (j := 0) (PSw_lo (PS_w h1)) (by rw [k707]; exact uo.2.2) (by omega) (by omega)
  have w4 : PSw n t A w p3 e3 o (c + 3 - 20) (md_pi σ3 644 (sF σ3 644 + 1)) μ3 := PSw_fr w3 (P := fun k => decide (k = 644)) (mf_pi mf_rfl rfl) (Q := fun _ => false) mf_rfl (fun k hk => by simp only [decide_eq_false_iff_not]; omega) (fun _ _ => rfl) w3.2.2.2.2.2 w3.2.2.2.1 w3.2.2.2.2.1
  have o4 : OPN o (md_pi σ3 644 (sF σ3 644 + 1)) μ3 := by
    refine ⟨?_, ?_, by omega⟩
    · rw [sF_pi, if_pos rfl, mf_F f3 rfl, e44, oa]; exact opn_s oc
    · rw [z3, ob]; exact opn_s oc
  have h4 := w_PS w4 o4
  have i2 := enter_y (N := N) (k := sF σ 707) h1.2.1.1 (by rw [e44]; exact x44) k707 r1
  have kx3 : KX σ (md_pi σ3 644 (sF σ3 644 + 1)) (-1) := KX_pi (KX_tr kx0 (KX_fr f3 T_KP)) (by decide) (by decide)
  have nd3 : ND (md_pi σ3 644 (sF σ3 644 + 1)) (sF σ 584) 13 (-1) (-1) (sF σ 707) (-1) (LN t p) p (-1) := ND_pi (ND_fr nd0 f3 T_KP)
  have c3 : sF σ 584 < sF (md_pi σ3 644 (sF σ3 644 + 1)) 584 := by
    rw [sF_pi, if_neg (by decide), mf_F f3 rfl]; exact c0
  have px3 : m_fr fPX σ (md_pi σ3 644 (sF σ3 644 + 1)) := mf_pi (mf_tr px0 (px_T f3)) rfl
  generalize md_pi σ3 644 (sF σ3 644 + 1) = σ4 at *
  have v3 : v ≤ sF μ3 133 := by rw [tI_le]; unfold tF at z1 h0; have := tI_le.mp hv; omega
  obtain ⟨r, σ5, x5, fx5, res⟩ := H 10 d dm (f + 1) (g + 1) w p3 e3 (c + 3 - 20) σ4 μ3 v (by omega) (by omega) (by omega) h4 (by omega) v0 ⟨v3, fun _ b b1 b2 => absurd (Int32.lt_of_lt_of_le b1 b2) (Int32.lt_irrefl)⟩ (by omega) (by omega) (by omega)
  have hY : mm_expression_18 N (rc_expression N dm) (mm_expression_7 N (rc_expression N dm) (f + 1)) (g + 1 + 1) v μ = mm_expression_18 N (rc_expression N dm) (mm_expression_7 N (rc_expression N dm) (f + 1)) (g + 1) v μ3 := by
    rw [mm_expression_18, if_pos (show μ.1 67 = 0 from h.2.1.2), isU_y tk u, bd_so]
    dsimp only
    rw [if_neg n10, open_y m69, bd_so, hang_m (show sF (md_pi μ 69 (sF μ 69 + 1)) 67 = 0 from h.2.1.2) (tI_in h0 (by show tF μ 133 < _; omega))]
    rw [show (md_pi μ 69 (sF μ 69 + 1)).1 60 = sF μ 60 from rfl, show (md_pi μ 69 (sF μ 69 + 1)).1 63 = sF μ 63 from rfl, r2, bd_so]
  rw [hY]
  refine ⟨_, _, (un_x h.2.1.1 u).trans (un45 i2 x5), px_45 (mf_tr px3 fx5), ?_⟩
  have pm3 : m_fr fPM μ μ3 := pm_P g3
  rcases res with ⟨μ5, y5, pm5, fl⟩ | ⟨μ5, p5, f', h', y5, pm5, gx, b5, f5, h5⟩
  · exact .inl ⟨μ5, y5, mf_tr pm3 pm5, FLw_up (FLw_644 (FLw_ai fl rfl)) wx_rfl (by unfold kfo; omega)⟩
  right
  obtain ⟨w5, e5, ww, ps5, ⟨kp, k97, kq⟩, ⟨ra, rb, _⟩, kx5, pp5, em5⟩ := gx
  have ne : sF σ 584 ≠ -1 := fun z => by have := q.1.1; rw [z] at this; exact absurd this (by decide)
  have nd7 : ND (md_pi (md_ai σ5 577 (sF σ 584).toNatClampNeg r) 644 (sF σ5 644 - 1)) (sF σ 584) 13 r (-1) (sF σ 707) (-1) (LN t p) p (-1) := ND_A (ND_KX nd3 kx5 q.1.1 c3 ne)
  have k133 : sF μ5 133 = sF μ 133 + 1 := kp.1.2.2.1.trans z2
  have t133 : tF μ5 133 = tF μ 133 + 1 := by unfold tF; rw [kp.1.2.2.1]; exact z1
  obtain ⟨h', rfl⟩ : ∃ j, h' = j + 1 := ⟨h' - 1, by have := tI_le.mp hv; unfold tF at t133 h5; omega⟩
  have lt3 : sF μ 133 < sF μ3 133 := by rw [tI_lt]; unfold tF at z1; omega
  obtain ⟨kp1, kp2, kp3⟩ := kp.2.2.2.2.1 (sF μ 133) (tI_le.mpr h0) lt3
  obtain ⟨μ6, μ7, rd, val, em', w7, f6, f7, ⟨j1, j2, j3⟩⟩ := rdn_2 (N := N) ps5 (by omega) k133 h0 (by show tF μ 133 < _; omega) (kp1.trans s1) (kp2.trans s2) (by rw [tk.2]; exact uo.2.1)
  have kpl : KPL μ μ7 := KPL_psh g3 kp f7 ls_P ls_R (Int32.le_of_lt lt3) s4 j1
  have tk60 : sF μ7 60 = sF μ5 60 := mf_F f7 rfl
  refine ⟨μ7, p5, f', h', ?_, mf_tr pm3 (mf_tr pm5 (pm_R f7)), fun e => ?_, f5, ?_⟩
  · rw [y5, mm_expression_84, if_pos (show μ5.1 67 = 0 from ps5.2.1.2), show μ5.1 133 = sF μ5 133 from rfl, if_neg (by rw [k133]; exact Int32.not_le.mpr (by rw [tI_lt]; have := tI_le.mp hv; unfold tF at t133 h0; rw [← k133]; omega)), rd_0 k133, gd_of (tI_in h0 (by show tF μ 133 < _; omega)), gf_m, bd_so]
    dsimp only
    rw [show μ5.2.2.1 130 (sF μ 133).toNatClampNeg = sI μ5 130 (sF μ 133) from rfl, kp1.trans s1, gfs, if_pos (Int32.not_le.mp (by rw [tk.2]; exact uo.2.1)), if_neg n10, rd, bd_so, tk60]
  · refine ⟨w5, e5, ww, ?_, ⟨kpl, by rw [mf_F f7 rfl, k97, mf_F g3 rfl], fun m => ?_⟩, ⟨Int32.le_refl _, ?_, nd7.2.2.2.2.2.2.2⟩, ?_, by omega, fun W T hW hT => ?_⟩
    · refine PS_up (c := c + 3 - 20 - 8 + 2) (w_PS ?_ ⟨?_, ?_, oc⟩) (by omega) (by omega)
      · refine PSw_fr w7 (P := fun k => [577, 644].contains k) (mf_pi (mf_ai mf_rfl rfl) rfl) (Q := fun _ => false) mf_rfl (fun k hk => ?_) (fun _ _ => rfl) w7.2.2.2.2.2 w7.2.2.2.1 (MI_hi w7.2.2.2.2.1 kpl h.2.2.2.2.2.1)
        simp only [List.contains_cons, List.contains_nil, Bool.or_eq_false_iff, beq_eq_false_iff_ne]
        (repeat' (first | exact trivial | omega | apply And.intro))
      · show sF σ5 644 - 1 = _
        rw [ps5.2.2.1.1]; exact opn_p oc
      · rw [j2, ps5.2.2.1.2.1]; exact opn_p oc
    · exfalso
      unfold isMn at m
      rw [j3] at m
      exact absurd m (by decide)
    · show sF σ 584 < sF σ5 584
      exact Int32.lt_of_lt_of_le c3 kx5.1.1
    · exact KX_pi (KX_ai (KX_tr kx3 kx5) q.1.1 (Int32.le_refl _) (by omega)) (by decide) (by decide)
    · obtain ⟨t1, t2, t3, t4, t5, t6, t7, t8⟩ := AG_ND hT nd7 (Int32.le_refl _) (Int32.lt_of_lt_of_le c3 kx5.1.1)
      have sub : AG σ4 σ5 r T := AG_sb hT kx3.1.1 kx3.1.2 (KY_pi (KY_ai KY_rfl (Int32.le_trans q.1.1 kx3.1.1) q.1.1 c3 (by omega)) (by decide) (by decide)) (.inr (.inl c3))
      have em5' := em5 W T hW sub
      rw [w10] at em5'
      refine ei_unary o e (sF σ 584) μ μ5 μ6 μ7 t1 (EMR_sl (sl_P g3) (by rw [t2]; exact em5')) (st_of mf_rfl val) ?_
      rw [t4 (by decide) (by decide) (by decide), t6, ← uo.1, ← tk.2]
      refine st_of (ν := md_pi (md_pi μ6 133 (sF μ 133)) 69 (sF μ6 69 - 1)) (mf_pi (mf_pi mf_rfl rfl) rfl) ?_
      rw [show LN t p = sF μ 63 from h.1.2.2.2.1.2.2.symm]
      exact em'
  · rw [show tF μ7 133 = tF μ 133 from by unfold tF; rw [j1]]
    omega
