/-! LAYER 2: the two readers: behind the right side of a sign -/
theorem bin_cl {N : Nat} (hN : BIG ≤ N) {n : Int32} {t : Int32 → Int32} {A : Nat → Int} {o l o2 l2 dx dm j : Nat} {w w1 : WD} {p e p1 e1 p3 e3 r1 v d k s ln jm : Int32} {c c3 : Int} {σ μ σ1 μ1 σ4 μ3 : mS} {P : Nat → Bool} {X B : Option (Int32 × mS)} {Y : Option mS}
    (hb : PS n t A w p e o c σ μ) (hc : c ≤ 400) (hl : l ≤ 10) (fx1 : m_fr fPX σ σ1) (fm1 : m_fr fPM μ μ1) (ps1 : PS n t A w1 p1 e1 o (c - 8) σ1 μ1) (kq1 : KPL μ μ1 ∧ sF μ1 97 = sF μ 97 ∧ KQ μ1) (kx1 : KX σ σ1 (-1)) (pp1 : p.toInt < p1.toInt) (em1 : ∀ W T, wxT A w1 W T → AG σ σ1 r1 T → EMR N W T 0 o (wei l) r1 [] μ μ1) (v0 : 0 ≤ v.toInt) (hv : v ≤ sF μ1 133) (hj : n.toInt - p1.toInt < (j : Int) + 1)
    (hd : (d = 0 ∧ o2 = o) ∨ (d = 1 ∧ o2 + 1 = o)) (ww : wx w w1) (ps4 : PS n t A w1 p3 e3 o2 c3 σ4 μ3) (hc3 : c3 ≤ c - 20) (pp : p1.toInt + 1 ≤ p3.toInt) (kx4 : KX σ1 σ4 (-1)) (c4 : sF σ1 584 < sF σ4 584) (nd4 : ND σ4 (sF σ1 584) 12 r1 (-1) k (-1) (LN t p1) p1 (-1)) (fx4 : m_fr fPX σ1 σ4) (kne : k ≠ 7)
    (g3 : m_fr P μ1 μ3) (hP : ∀ k, [85, 106, 138, 140, 129, 67, 97, 96, 100, 102, 103, 137, 139, 87].contains k = true → P k = false) (fm3 : m_fr fPM μ1 μ3) (z1 : tF μ3 133 = tF μ1 133 + 1) (z2 : sF μ3 133 = sF μ1 133 + 1) (z3 : tF μ1 133 < 2047) (ss : sI μ3 130 (sF μ1 133) = s ∧ sI μ3 131 (sF μ1 133) = ln ∧ sI μ3 132 (sF μ1 133) = jm) (so : ∀ k, 0 ≤ k → k < sF μ1 133 → sI μ3 130 k = sI μ1 130 k ∧ sI μ3 131 k = sI μ1 131 k ∧ sI μ3 132 k = sI μ1 132 k) (gs : ∀ b, b ≤ Int32.ofNat l2 → gfs s b = 1)
    (RED : ∀ (μ5 σ5 : mS) (w5 : WD) (p5 e5 : Int32) (c5 : Int), PS n t A w5 p5 e5 o2 c5 σ5 μ5 → c5 ≤ 600 → sF μ5 133 = sF μ1 133 + 1 → sI μ5 130 (sF μ1 133) = s → sI μ5 131 (sF μ1 133) = ln → sI μ5 132 (sF μ1 133) = jm → ∃ μ7, mm_reduce N μ5 = some μ7 ∧ PSw n t A w5 p5 e5 o2 (c5 + 2) σ5 μ7 ∧ m_fr fRd μ5 μ7 ∧ (sF μ7 133 = sF μ1 133 ∧ sF μ7 69 = sF μ5 69 - d ∧ sF μ7 125 = 0) ∧ ∀ (W : WD) (T : mS) (r : Int32), nK T (sF σ1 584) = 12 → nA T (sF σ1 584) = r1 → nB T (sF σ1 584) = r → nC T (sF σ1 584) = k → nL T (sF σ1 584) = LN t p1 → EMR N W T 0 o (wei l) r1 [] μ μ1 → EMR N W T 0 o2 (wei l2) r [] μ3 μ5 → EMR N W T 0 o (wei l) (sF σ1 584) [] μ μ7)
    (HR : RXx N n t A w1 o2 l2 c3 p3 σ4 μ3 X (rc_expression N dm) Y v)
    (HX : ∀ r σ5, X = some (r, σ5) → B = (if sF σ5 646 = 0 then xx10_expression_2_b27 N (rc_xx10_arguments N dx) j (Int32.ofNat l) (sF σ1 584) (bdx (sF σ5 707)) (md_pi (md_ai σ5 578 (sF σ1 584).toNatClampNeg r) 644 (sF σ5 644 - d)) else xx10_expression_2_b27 N (rc_xx10_arguments N dx) j (Int32.ofNat l) (sF σ1 584) 0 (md_pi (md_ai σ5 578 (sF σ1 584).toNatClampNeg r) 644 (sF σ5 644 - d))))
    (IH : ∀ (σ7 μ7 : mS) (p5 : Int32) (f7 h7 : Nat), m_fr fPX σ σ7 → m_fr fPM μ μ7 → GX N n t A w o (wei l) c p p5 σ μ (sF σ1 584) σ7 μ7 → n.toInt - p5.toInt < (j : Int) → n.toInt - p5.toInt < (f7 : Int) → tF μ7 133 - v.toInt < (h7 : Int) → RXx N n t A w o l c p σ μ (xx10_expression_2_b27 N (rc_xx10_arguments N dx) j (Int32.ofNat l) (sF σ1 584) (bdx (sF σ7 707)) σ7) (rc_expression N dm) (mm_expression_84 N (rc_expression N dm) (mm_expression_7 N (rc_expression N dm) f7) h7 v (bdm (sF μ7 60)) μ7) v) :
    RXx N n t A w o l c p σ μ B (rc_expression N dm) Y v := by
  have q := PS_584 hb
  have oc := hb.2.2.1.2.2
  obtain ⟨kp1, k97, kq⟩ := kq1
  have pn3 := PS_pn ps4
  have x0 : 0 ≤ sF σ1 584 := Int32.le_trans q.1.1 kx1.1.1
  obtain ⟨r, σ5, x5, fx5, res⟩ := HR
  rw [HX r σ5 x5]
  have fx7 : m_fr fPX σ (md_pi (md_ai σ5 578 (sF σ1 584).toNatClampNeg r) 644 (sF σ5 644 - d)) := mf_pi (mf_ai (mf_tr fx1 (mf_tr fx4 fx5)) rfl) rfl
  have ko : kfo o2 ≤ kfo o := by unfold kfo; omega
  rcases res with ⟨μ5, y5, pm5, fl⟩ | ⟨μ5, p5, f', h', y5, pm5, gx, b5, f5, h5⟩
  · rw [if_neg (by rw [(FLw_1 fl).1]; decide)]
    obtain ⟨j, rfl⟩ : ∃ i, j = i + 1 := ⟨j - 1, by omega⟩
    refine ⟨sF σ1 584, _, ?_, fx7, .inl ⟨μ5, y5, mf_tr fm1 (mf_tr fm3 pm5), FLw_up (FLw_644 (FLw_ai fl rfl)) ww ko⟩⟩
    rw [xx10_expression_2_b27, if_pos (show (0 : Int32) ≤ Int32.ofNat l from (oN_le (a := 0) (by decide) (by omega)).mpr (by omega))]
  obtain ⟨w5, e5, ww5, ps5, ⟨kp, k97', kq'⟩, ⟨ra', rb', _⟩, kx5, pp5, em5⟩ := gx
  have ne : sF σ1 584 ≠ -1 := fun z => by rw [z] at x0; exact absurd x0 (by decide)
  have nd7 : ND (md_pi (md_ai σ5 578 (sF σ1 584).toNatClampNeg r) 644 (sF σ5 644 - d)) (sF σ1 584) 12 r1 r k (-1) (LN t p1) p1 (-1) := ND_B (ND_KX nd4 kx5 x0 c4 ne)
  rw [if_pos ps5.2.1.1]
  have h0 : 0 ≤ tF μ1 133 := ps1.2.2.2.2.2.1.2.2.2.2.2.2.2.2.1
  have k133 : sF μ5 133 = sF μ1 133 + 1 := kp.1.2.2.1.trans z2
  have t133 : tF μ5 133 = tF μ1 133 + 1 := by unfold tF; rw [kp.1.2.2.1]; exact z1
  have vv := tI_le.mp hv
  obtain ⟨h', rfl⟩ : ∃ i, h' = i + 1 := ⟨h' - 1, by unfold tF at t133 h5; omega⟩
  have lt3 : sF μ1 133 < sF μ3 133 := by rw [tI_lt]; unfold tF at z1; omega
  obtain ⟨q1, q2, q3⟩ := kp.2.2.2.2.1 (sF μ1 133) (tI_le.mpr h0) lt3
  obtain ⟨μ7, rd, w7, f7, ⟨j1, j2, j3⟩, emr⟩ := RED μ5 σ5 w5 p5 e5 (c3 - 8) ps5 (by omega) k133 (q1.trans ss.1) (q2.trans ss.2.1) (q3.trans ss.2.2)
  have kpl1 : KPL μ1 μ7 := KPL_psh g3 kp f7 hP ls_R (Int32.le_of_lt lt3) so j1
  have kpl : KPL μ μ7 := KPL_tr kp1 kpl1
  have tk60 : sF μ7 60 = sF μ5 60 := mf_F f7 rfl
  have yy : Y = mm_expression_84 N (rc_expression N dm) (mm_expression_7 N (rc_expression N dm) f') h' v (bdm (sF μ7 60)) μ7 := by
    rw [y5, mm_expression_84, if_pos (show μ5.1 67 = 0 from ps5.2.1.2), show μ5.1 133 = sF μ5 133 from rfl, if_neg (by rw [k133]; exact Int32.not_le.mpr (by rw [tI_lt]; unfold tF at t133 h0; rw [← k133]; omega)), rd_0 k133, gd_of (tI_in h0 (by show tF μ1 133 < _; omega)), gf_m, bd_so]
    dsimp only
    rw [show μ5.2.2.1 130 (sF μ1 133).toNatClampNeg = sI μ5 130 (sF μ1 133) from rfl, q1.trans ss.1, gs _ b5, if_neg n10, rd, bd_so, tk60]
  rw [yy]
  have o44 : OPN o (md_pi (md_ai σ5 578 (sF σ1 584).toNatClampNeg r) 644 (sF σ5 644 - d)) μ7 := by
    obtain ⟨oa, ob, _⟩ := ps5.2.2.1
    refine ⟨?_, ?_, oc⟩
    · show sF σ5 644 - d = _
      rcases hd with ⟨rfl, rfl⟩ | ⟨rfl, rfl⟩
      · rw [Int32.sub_zero]; exact oa
      · rw [oa]; exact opn_p oc
    · rw [j2]
      rcases hd with ⟨rfl, rfl⟩ | ⟨rfl, rfl⟩
      · rw [Int32.sub_zero]; exact ob
      · rw [ob]; exact opn_p oc
  have k7 : sF (md_pi (md_ai σ5 578 (sF σ1 584).toNatClampNeg r) 644 (sF σ5 644 - d)) 707 = sF σ5 707 := rfl
  have kx7 : KX σ (md_pi (md_ai σ5 578 (sF σ1 584).toNatClampNeg r) 644 (sF σ5 644 - d)) (-1) := KX_pi (KX_ai (KX_tr (KX_tr kx1 kx4) kx5) q.1.1 kx1.1.1 (by omega)) (by decide) (by decide)
  have kx17 : KX σ1 (md_pi (md_ai σ5 578 (sF σ1 584).toNatClampNeg r) 644 (sF σ5 644 - d)) (-1) := KX_pi (KX_ai (KX_tr kx4 kx5) x0 (Int32.le_refl _) (by omega)) (by decide) (by decide)
  rw [← k7]
  refine IH _ μ7 p5 f' h' fx7 (mf_tr fm1 (mf_tr fm3 (mf_tr pm5 (pm_R f7)))) ⟨w5, e5, wx_tr ww ww5, ?_, ⟨kpl, by rw [mf_F f7 rfl, k97', mf_F g3 (hP 97 rfl), k97], fun m => ?_⟩, ⟨kx1.1.1, ?_, nd7.2.2.2.2.2.2.2⟩, kx7, by omega, fun W T hW hT => ?_⟩ (by omega) f5 ?_
  · refine PS_up (c := c3 - 8 + 2) (w_PS ?_ o44) (by omega) (by omega)
    refine PSw_fr w7 (P := fun k => [578, 644].contains k) (mf_pi (mf_ai mf_rfl rfl) rfl) (Q := fun _ => false) mf_rfl (fun k hk => ?_) (fun _ _ => rfl) w7.2.2.2.2.2 w7.2.2.2.1 (MI_hi w7.2.2.2.2.1 kpl hb.2.2.2.2.2.1)
    simp only [List.contains_cons, List.contains_nil, Bool.or_eq_false_iff, beq_eq_false_iff_ne]
    (repeat' (first | exact trivial | omega | apply And.intro))
  · exfalso
    unfold isMn at m
    rw [j3] at m
    exact absurd m (by decide)
  · show sF σ1 584 < sF σ5 584
    exact Int32.lt_of_lt_of_le c4 kx5.1.1
  · obtain ⟨t1, t2, t3, t4, t5, t6, t7, t8⟩ := AG_ND hT nd7 kx1.1.1 (Int32.lt_of_lt_of_le c4 kx5.1.1)
    have sub1 : AG σ σ1 r1 T := AG_sb hT (Int32.le_refl _) (Int32.le_refl _) (KY_X (KX_r kx17) q.1.1 q.2.2.1) (.inr (.inr (Int32.le_refl _)))
    have sub2 : AG σ4 σ5 r T := AG_sb hT (Int32.le_trans kx1.1.1 kx4.1.1) (Int32.le_trans kx1.1.2 kx4.1.2) (KY_pi (KY_ai KY_rfl (Int32.le_trans x0 kx4.1.1) x0 c4 (by omega)) (by decide) (by decide)) (.inr (.inl c4))
    exact emr W T r t1 t2 (t3 (by decide)) (t4 (by decide) (by decide) (by decide)) t6 (em1 W T (wxT_tr ww5 hW) sub1) (em5 W T hW sub2)
  · rw [show tF μ7 133 = tF μ1 133 from by unfold tF; rw [j1]]
    omega
