/-! LAYER 2: resume, whole -/
theorem G2_bd {e : EV} {j M : Nat} {o : Option (Except (Nat × mS) mS)} {m : Option mS} (H : G2 e j M o m) : G2 e j M o (bd m (fun z => some z)) := by rw [bd_id]; exact H
theorem resume_2 {e : EV} (E : EVok e) {M : Nat} {F : Int32} (GF : GFst e M F 200 200) (RA : RAst e M F 200 200) {m : Nat} (BG : BGst e M F 200 m) {w : WD} {xf : Int32 → List Int32} {c d a b p n wr kd : Int32} {rest : PL2} {ct : CT} {σ μ : mS} (H : CL e w xf c d rest ct σ μ) (hp : p = ct.2.2.2.1) (g399 : sF σ 399 = n) (n0 : 0 ≤ n) (n1 : n ≤ 100) (g190 : sF μ 190 = n) (gv : ∀ k, 0 ≤ k → k < n → VV w (sI σ 397 k) (sJ σ 398 k) (sI μ 188 k) (sJ μ 189 k)) (top : sF μ 143 = p) (hab : (a, b) ∈ wC w ∨ (a = 0 ∧ b = 120)) (ho : sF σ 358 < 200) (hF : sF σ 396 = F) (hwr : (wr = 0 ∧ kd = 2) ∨ (wr = 1 ∧ kd = 3)) (hm : (200 - (sF σ 358).toInt) ≤ (m : Nat) + 1) {dx dm : Nat} (hx : 5 * m + 20 ≤ dx) (hd : 4 * m + 20 ≤ dm) : G2 e 1000 (M + 1) (bxx6_resume (eN e) (rc_xx6_begin (eN e) dx) σ a wr ct.1 ct.2.1 ct.2.2.1) (mb_goOn (eN e) (rc_call (eN e) dm) μ b kd p ct.2.2.2.2.1 ct.2.2.2.2.2) := by
  obtain ⟨s1, ⟨a0, a1, b0, b1⟩, s3⟩ := CL_state H hab
  by_cases z : sI σ 323 a = 0
  · have hC := s3 z
    obtain ⟨_, _, _, _, hk⟩ := H.1.2.2.2.2.1.1 a b hC
    have nch : (a, b) ∉ (c, d) :: rest := fun q => by
      rcases List.mem_cons.mp q with y | y
      · obtain ⟨y1, y2⟩ := Prod.mk.inj y
        have := H.1.2.2.2.2.2.2.1.2.2.1
        rw [← y1, z] at this; exact absurd this (by decide)
      · have := (BC_st2 H.1.2.2.2.2.2.1 _ y).1
        rw [z] at this; exact absurd this (by decide)
    rcases hk.resolve_left nch with ⟨v1, _⟩ | ⟨v1, v2, v3, v4, v5, v6, v7⟩ | ⟨v1, v3, v4, v5, v6, v7, v8⟩
    · exact absurd (v1.symm.trans z) (by decide)
    · exact resN_2 E BG H hp g399 n0 n1 g190 gv top hC z v2 v3 v4 v5 v6 v7 ho hF hwr hm hx hd
    · exact resK_2 E GF H hp g399 n0 n1 g190 gv top hC z v3 v4 v5 v6 v7 ho hF hwr _ _
  · have z' : ¬ sI μ 156 b = 0 := by rw [← s1]; exact z
    have op := open_x1 (N := eN e) ho
    have bb := CL_b H
    have n200 : sF μ 154 - 1 ≤ 200 := by
      obtain ⟨_, _, ⟨q1, q2, q3⟩, _⟩ := bb
      clear H GF RA BG gv
      lia
    have nn : (sF μ 154).toInt ≤ (200 : Nat) := by have := bb.2.2.1.2.2; rw [tI_le] at this; exact this
    have HH := H.1.2.2.1
    -- dead, or busy
    have msg : ∀ (y : Int32) (sx sm : Int32), (sx, sm) ∈ wX w → (y = 1 ∧ sx = sF σ 525 ∧ sm = sF μ 214) ∨ (y = 0 ∧ sx = sF σ 526 ∧ sm = sF μ 215) → (y = 1 ∨ y = 0) → G2 e 1000 (M + 1) (xx6_resume_b34 (eN e) (rc_xx6_begin (eN e) dx) wr ct.1 ct.2.1 ct.2.2.1 y σ) (mm_goOn_24 (eN e) (rc_call (eN e) dm) kd p ct.2.2.2.2.1 ct.2.2.2.2.2 y μ) := fun y sx sm hX hy hy' => by
      rcases hwr with ⟨rfl, rfl⟩ | ⟨rfl, rfl⟩
      · obtain ⟨t1, t2, t3, u1, u2, u3, y1, y2, y3, y4, y5, y6, y7, y8', y8, y9⟩ := giveE_2 (N := eN e) (σ := σ) (μ := μ) (w := w) (tx := 4) (tm := 3) (vx := Int32.toInt64 sx) (vm := Int32.toInt64 sm) (.inr (.inr (.inr (.inr (.inl ⟨rfl, rfl, _, _, rfl, rfl, .inr hX⟩)))))
        have H' : CL e w xf c d rest ct t3 u3 := CL_lt H (vK_l y8) (vM_l y9) (by rw [mf_F y8 rfl]; exact CL_0 H)
        have g := give_G2 E GF H' y7 (by decide) (by rw [mf_F y8 rfl]; exact hF)
        have f5 : sF t2 525 = sF σ 525 := mf_F y8' rfl
        have f6 : sF t2 526 = sF σ 526 := mf_F y8' rfl
        have fr2 : m_fr vM μ u2 := by
          obtain ⟨q, q1, q2, q3, _⟩ := give1_m (N := eN e) (σ := u1) (n := 0) (t := 1) (v := 0) (by
            have : u1 = md_pi μ 190 0 := by
              simp only [mm_giveNothing, lt] at y4
              exact (Option.some.inj y4).symm
            rw [this]; simp only [sF_pi, sF_pl, sF_ai, sF_al, sG_pi, sG_pl, sG_ai, sG_al, sI_pi, sI_pl, sI_al, sI_ai1, sI_ai2, sJ_pi, sJ_pl, sJ_ai, sJ_al1, sJ_al2, Nat.reduceEqDiff, if_true, if_false, ne_eq, not_false_eq_true, ite_true, ite_false]) (by decide) (by decide) (by decide) (by decide)
          have : u2 = q := Option.some.inj (y5.symm.trans q1)
          rw [this]
          have e1 : u1 = md_pi μ 190 0 := by
            simp only [mm_giveNothing, lt] at y4
            exact (Option.some.inj y4).symm
          rw [e1] at q2
          exact mf_tr (mf_pi mf_rfl rfl) q2
        have g4 : sF u2 214 = sF μ 214 := mf_F fr2 rfl
        have g5 : sF u2 215 = sF μ 215 := mf_F fr2 rfl
        rcases hy with ⟨rfl, rfl, rfl⟩ | ⟨rfl, rfl, rfl⟩
        · have ex : xx6_resume_b34 (eN e) (rc_xx6_begin (eN e) dx) 0 ct.1 ct.2.1 ct.2.2.1 1 σ = xx6_give (eN e) t3 ct.1 ct.2.1 ct.2.2.1 := by
            simp only [xx6_resume_b34, xx6_resume_b95, if_true, y1, bd, y2, bx, sF_fold]
            rw [if_neg (by decide), f5, y3]
            exact bx_ok
          have em : mm_goOn_24 (eN e) (rc_call (eN e) dm) 2 p ct.2.2.2.2.1 ct.2.2.2.2.2 1 μ = mm_finish (eN e) u3 p ct.2.2.2.2.1 ct.2.2.2.2.2 := by
            simp only [mm_goOn_24, mm_goOn_61, mm_goOn_94, if_true, y4, bd, y5, sF_fold]
            rw [if_neg (by decide), g4, y6]
            exact bd_id
          rw [ex, em, hp]
          exact g
        · have ex : xx6_resume_b34 (eN e) (rc_xx6_begin (eN e) dx) 0 ct.1 ct.2.1 ct.2.2.1 0 σ = xx6_give (eN e) t3 ct.1 ct.2.1 ct.2.2.1 := by
            simp only [xx6_resume_b34, xx6_resume_b95, if_true, y1, bd, y2, bx, sF_fold]
            rw [f6, y3]
            exact bx_ok
          have em : mm_goOn_24 (eN e) (rc_call (eN e) dm) 2 p ct.2.2.2.2.1 ct.2.2.2.2.2 0 μ = mm_finish (eN e) u3 p ct.2.2.2.2.1 ct.2.2.2.2.2 := by
            simp only [mm_goOn_24, mm_goOn_61, mm_goOn_94, if_true, y4, bd, y5, sF_fold]
            rw [g5, y6]
            exact bd_id
          rw [ex, em, hp]
          exact g
      · rcases hy' with rfl | rfl
        · have ex : xx6_resume_b34 (eN e) (rc_xx6_begin (eN e) dx) 1 ct.1 ct.2.1 ct.2.2.1 1 σ = bx (xx6_fault (eN e) σ (3000 + 6)) (fun z6 => some (Except.error (z6.1, z6.2))) := by
            simp only [xx6_resume_b34, xx6_resume_b55]
            rw [if_neg (by decide), if_neg (by decide)]
          have em : mm_goOn_24 (eN e) (rc_call (eN e) dm) 3 p ct.2.2.2.2.1 ct.2.2.2.2.2 1 μ = mm_fault_2 (eN e) μ 13 := by
            simp only [mm_goOn_24, mm_goOn_91, mm_goOn_94, bd_id]
            rw [if_neg (by decide), if_neg (by decide)]
          rw [ex, em]
          exact OE_G2 E RA (fault_OE E H (t := 6) (tm := 13) (by decide) (by decide) tx_6 (by decide +kernel)) hF n200 nn
        · have ex : xx6_resume_b34 (eN e) (rc_xx6_begin (eN e) dx) 1 ct.1 ct.2.1 ct.2.2.1 0 σ = bx (xx6_fault (eN e) σ (3000 + 7)) (fun z6 => some (Except.error (z6.1, z6.2))) := by
            simp only [xx6_resume_b34, xx6_resume_b55]
            rw [if_neg (by decide), if_pos trivial]
          have em : mm_goOn_24 (eN e) (rc_call (eN e) dm) 3 p ct.2.2.2.2.1 ct.2.2.2.2.2 0 μ = mm_fault_2 (eN e) μ 14 := by
            simp only [mm_goOn_24, mm_goOn_91, mm_goOn_94, bd_id]
            rw [if_neg (by decide), if_pos trivial]
          rw [ex, em]
          exact OE_G2 E RA (fault_OE E H (t := 7) (tm := 14) (by decide) (by decide) tx_7 (by decide +kernel)) hF n200 nn
    by_cases d3 : sI σ 323 a = 3
    · have d3' : sI μ 156 b = 3 := by rw [← s1]; exact d3
      have ex : bxx6_resume (eN e) (rc_xx6_begin (eN e) dx) σ a wr ct.1 ct.2.1 ct.2.2.1 = xx6_resume_b34 (eN e) (rc_xx6_begin (eN e) dx) wr ct.1 ct.2.1 ct.2.2.1 1 σ := by
        clear msg gv BG GF RA HH bb
        simp (disch := first | exact z | lia) only [bxx6_resume, lt, gd_in, if_pos, if_neg, ↓reduceIte, gd_z0, gd_z1, gd_tt, sF_fold, sG_fold, sI_fold, sJ_fold, op, bx, d3]
      have em : mb_goOn (eN e) (rc_call (eN e) dm) μ b kd p ct.2.2.2.2.1 ct.2.2.2.2.2 = mm_goOn_24 (eN e) (rc_call (eN e) dm) kd p ct.2.2.2.2.1 ct.2.2.2.2.2 1 μ := by
        clear msg gv BG GF RA HH bb
        simp (disch := first | exact z' | lia) only [mb_goOn, lt, gd_in, if_pos, if_neg, ↓reduceIte, gd_z0, gd_z1, gd_tt, sF_fold, sG_fold, sI_fold, sJ_fold, d3']
      rw [ex, em]
      exact msg 1 _ _ HH.2.2.2.1 (.inl ⟨rfl, rfl, rfl⟩) (.inl rfl)
    · have d3' : ¬ sI μ 156 b = 3 := by rw [← s1]; exact d3
      have ex : bxx6_resume (eN e) (rc_xx6_begin (eN e) dx) σ a wr ct.1 ct.2.1 ct.2.2.1 = xx6_resume_b34 (eN e) (rc_xx6_begin (eN e) dx) wr ct.1 ct.2.1 ct.2.2.1 0 σ := by
        clear msg gv BG GF RA HH bb
        simp (disch := first | exact z | exact d3 | lia) only [bxx6_resume, lt, gd_in, if_pos, if_neg, ↓reduceIte, gd_z0, gd_z1, gd_tt, sF_fold, sG_fold, sI_fold, sJ_fold, op, bx]
      have em : mb_goOn (eN e) (rc_call (eN e) dm) μ b kd p ct.2.2.2.2.1 ct.2.2.2.2.2 = mm_goOn_24 (eN e) (rc_call (eN e) dm) kd p ct.2.2.2.2.1 ct.2.2.2.2.2 0 μ := by
        clear msg gv BG GF RA HH bb
        simp (disch := first | exact z' | exact d3' | lia) only [mb_goOn, lt, gd_in, if_pos, if_neg, ↓reduceIte, gd_z0, gd_z1, gd_tt, sF_fold, sG_fold, sI_fold, sJ_fold]
      rw [ex, em]
      exact msg 0 _ _ HH.2.2.2.2.1 (.inr ⟨rfl, rfl, rfl⟩) (.inr rfl)
theorem pp_1 {p : Int32} (h0 : 0 ≤ p) (h1 : p ≤ 475000) : 0 ≤ p + 1 ∧ p + 1 ≤ 480000 := ⟨by lia, by lia⟩
/-- arguments that lie on the pile are given on both sides -/
theorem AR_ga {e : EV} (E : EVok e) {w : WD} {xf : Int32 → List Int32} {c d : Int32} {rest : PL2} {ct : CT} {σ μ : mS} {n : Int32} (H : CL e w xf c d rest ct σ μ) (A : AR w σ μ ct.2.2.2.1 n) : ∃ τm, mm_gather (eN e) μ (ct.2.2.2.1 + 1) n = some τm ∧ CL e w xf c d rest ct σ (md_pi τm 143 ct.2.2.2.1) ∧ sF (md_pi τm 143 ct.2.2.2.1) 190 = n ∧ (∀ k, 0 ≤ k → k < n → VV w (sI σ 397 k) (sJ σ 398 k) (sI (md_pi τm 143 ct.2.2.2.1) 188 k) (sJ (md_pi τm 143 ct.2.2.2.1) 189 k)) ∧ m_fr vM μ τm := by
  obtain ⟨A1, A2, A3, A4, A5⟩ := A
  obtain ⟨N1, _⟩ := CL_n H
  have p1 : 0 ≤ ct.2.2.2.1 + 1 ∧ ct.2.2.2.1 + 1 ≤ 480000 := pp_1 N1.1 N1.2.1
  obtain ⟨τm, g1, g2, g3, g4⟩ := gather_m (EV_N E) (μ := μ) (from' := ct.2.2.2.1 + 1) (n := n) p1.1 p1.2 A2 (Int32.le_trans A3 (by decide)) (fun k k0 k1 => (VV_t8 (A5 k k0 k1)).2)
  refine ⟨τm, g1, CL_ag H mf_rfl (mf_pi (ltM_ag (vM_l g2)) rfl) (CL_0 H) (fun i _ _ => ?_), ?_, fun k k0 k1 => ?_, g2⟩
  · simp only [sF_pi, sF_pl, sF_ai, sF_al, sG_pi, sG_pl, sG_ai, sG_al, sI_pi, sI_pl, sI_al, sI_ai1, sI_ai2, sJ_pi, sJ_pl, sJ_ai, sJ_al1, sJ_al2, Nat.reduceEqDiff, if_true, if_false, ne_eq, not_false_eq_true, ite_true, ite_false]
    exact ⟨mf_I g2 rfl, mf_J g2 rfl⟩
  · simp only [sF_pi, sF_pl, sF_ai, sF_al, sG_pi, sG_pl, sG_ai, sG_al, sI_pi, sI_pl, sI_al, sI_ai1, sI_ai2, sJ_pi, sJ_pl, sJ_ai, sJ_al1, sJ_al2, Nat.reduceEqDiff, if_true, if_false, ne_eq, not_false_eq_true, ite_true, ite_false]; exact g3
  · simp only [sF_pi, sF_pl, sF_ai, sF_al, sG_pi, sG_pl, sG_ai, sG_al, sI_pi, sI_pl, sI_al, sI_ai1, sI_ai2, sJ_pi, sJ_pl, sJ_ai, sJ_al1, sJ_al2, Nat.reduceEqDiff, if_true, if_false, ne_eq, not_false_eq_true, ite_true, ite_false]
    rw [(g4 k k0 k1).1, (g4 k k0 k1).2]
    exact A5 k k0 k1
