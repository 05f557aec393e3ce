/-! LAYER 2: step rules: TAIL: what is looked up; what is entered behind it (printed by geneb.py) -/
theorem UK_lt {e : EV} {w : WD} {xf : Int32 → List Int32} {c d : Int32} {rest : PL2} {σ μ τ τm : mS} (H : UK e w xf c d rest σ μ) (fr : m_fr ltX σ τ) (frm : m_fr ltM μ τm) (h406 : sF τ 406 = 0) : UK e w xf c d rest τ τm :=
  UK_fr H (ME_lt H.1 fr frm) (SV_lt H.2.1 fr frm h406) wle_rfl (cds_fr fr (by decide) (by decide) (by decide)) fr frm (fun k hk => by
    simp only [kX] at hk
    simp only [ltX, inR, Bool.or_eq_false_iff, Bool.and_eq_false_iff, decide_eq_false_iff_not]
    omega) (fun k hk => by
    simp only [kM] at hk
    simp only [ltM, inR, List.contains_cons, List.contains_nil, Bool.or_eq_false_iff, beq_eq_false_iff_ne, Bool.or_eq_false_iff, Bool.and_eq_false_iff, decide_eq_false_iff_not]
    (repeat' (first | exact trivial | omega | apply And.intro)))
theorem look_U {e : EV} (E : EVok e) {w : WD} {xf : Int32 → List Int32} {c d : Int32} {rest : PL2} {σ μ : mS} {p n tx : Int32} {vx : Int64} (H : UK e w xf c d rest σ μ) (A : AR w σ μ p n) (b1 : 0 ≤ p) (b2 : p ≤ 480000) (v : VV w tx vx (sI μ 141 p) (sJ μ 142 p)) (t8 : tx ≠ 8) :
    (∃ n' τ τm, xx6_look (eN e) σ tx vx = some (.ok τ) ∧ mm_callable (eN e) μ p n = some (n', τm) ∧ n' ≤ 100 ∧ (∀ i, 0 ≤ i → i < p → sI τm 141 i = sI μ 141 i ∧ sJ τm 142 i = sJ μ 142 i) ∧ AR w τ τm p n' ∧ sI τm 141 p = 5 ∧ VV w 6 (sG τ 409) 5 (sJ τm 142 p) ∧ m_fr aK σ τ ∧ m_fr lkM μ τm)
    ∨ UO e w xf c d rest σ μ (fun z => ((-1 : Int32), z)) (xx6_look (eN e) σ tx vx) (mm_callable (eN e) μ p n) := by
  have hN := EV_N E
  have f406 := H.2.1.2.2.2.2.1
  obtain ⟨A1, A2, A3, A4, A5⟩ := A
  have tv := VV_tag v
  have tx2 : xtx 2 = mtx 8 := tx_2
  by_cases n1 : n ≤ 100
  · let σ1 := md_pl (md_pi σ 408 tx) 409 vx
    have fx1 : m_fr aK σ σ1 := mf_pl (mf_pi mf_rfl rfl) rfl
    have g399 : sF σ1 399 = n := by simp only [σ1, sF_pi, sF_pl, sF_ai, sF_al, sG_pi, sG_pl, sG_ai, sG_al, sI_pi, sI_pl, sI_al, sI_ai1, sI_ai2, sJ_pi, sJ_pl, sJ_ai, sJ_al1, sJ_al2, Nat.reduceEqDiff, if_true, if_false, ne_eq, not_false_eq_true, ite_true, ite_false]; exact A1
    have H1 : UK e w xf c d rest σ1 μ := UK_lt H (aK_lt fx1) mf_rfl (by simp only [σ1, sF_pi, sF_pl, sF_ai, sF_al, sG_pi, sG_pl, sG_ai, sG_al, sI_pi, sI_pl, sI_al, sI_ai1, sI_ai2, sJ_pi, sJ_pl, sJ_ai, sJ_al1, sJ_al2, Nat.reduceEqDiff, if_true, if_false, ne_eq, not_false_eq_true, ite_true, ite_false]; exact f406)
    have g397 : ∀ k, sI σ1 397 k = sI σ 397 k := fun k => by simp only [σ1, sF_pi, sF_pl, sF_ai, sF_al, sG_pi, sG_pl, sG_ai, sG_al, sI_pi, sI_pl, sI_al, sI_ai1, sI_ai2, sJ_pi, sJ_pl, sJ_ai, sJ_al1, sJ_al2, Nat.reduceEqDiff, if_true, if_false, ne_eq, not_false_eq_true, ite_true, ite_false]
    have g398 : ∀ k, sJ σ1 398 k = sJ σ 398 k := fun k => by simp only [σ1, sF_pi, sF_pl, sF_ai, sF_al, sG_pi, sG_pl, sG_ai, sG_al, sI_pi, sI_pl, sI_al, sI_ai1, sI_ai2, sJ_pi, sJ_pl, sJ_ai, sJ_al1, sJ_al2, Nat.reduceEqDiff, if_true, if_false, ne_eq, not_false_eq_true, ite_true, ite_false]
    by_cases t6 : tx = 6
    · have m5 : sI μ 141 p = 5 := tv.2.2.2.2.2.2.2.2.1.mp t6
      refine .inl ⟨n, σ1, μ, ?_, ?_, n1, fun i _ _ => ⟨rfl, rfl⟩, ⟨g399, A2, A3, A4, fun k k0 k1 => by rw [g397, g398]; exact A5 k k0 k1⟩, m5, ?_, fx1, mf_rfl⟩
      · simp (disch := lia) only [xx6_look, xx6_look_b182, lt, gd_in, if_pos, if_neg, ↓reduceIte, gd_z0, gd_z1, gd_tt, sF_fold, sG_fold, sI_fold, sJ_fold, A1, t6]
        simp only [σ1, t6]
      · simp (disch := lia) only [mm_callable, lt, gd_in, if_pos, if_neg, ↓reduceIte, gd_z0, gd_z1, gd_tt, sF_fold, sG_fold, sI_fold, sJ_fold, m5]
      · have : sG σ1 409 = vx := by simp only [σ1, sF_pi, sF_pl, sF_ai, sF_al, sG_pi, sG_pl, sG_ai, sG_al, sI_pi, sI_pl, sI_al, sI_ai1, sI_ai2, sJ_pi, sJ_pl, sJ_ai, sJ_al1, sJ_al2, Nat.reduceEqDiff, if_true, if_false, ne_eq, not_false_eq_true, ite_true, ite_false]
        rw [this, ← m5, ← t6]; exact v
    · have m5 : sI μ 141 p ≠ 5 := fun z => t6 (tv.2.2.2.2.2.2.2.2.1.mpr z)
      obtain ⟨r, a, b, h1, h2, h3⟩ := handler_2 hN H1.1.1.1 H1.1.2.2.1 v (k := 2) (by decide)
      have hk2 : Int32.ofNat 2 = (2 : Int32) := rfl
      have hn2 : sF μ (hnm.getD 2 0) = sF μ 195 := rfl
      rw [hk2] at h1
      rw [hn2] at h2
      have g42 : sF (gt μ a b) 42 = a := by simp only [gt, sF_pi, sF_pl, sF_ai, sF_al, sG_pi, sG_pl, sG_ai, sG_al, sI_pi, sI_pl, sI_al, sI_ai1, sI_ai2, sJ_pi, sJ_pl, sJ_ai, sJ_al1, sJ_al2, Nat.reduceEqDiff, if_true, if_false, ne_eq, not_false_eq_true, ite_true, ite_false]
      have frg : m_fr lkM μ (gt μ a b) := mf_pl (mf_pi mf_rfl rfl) rfl
      have H2 : UK e w xf c d rest σ1 (gt μ a b) := UK_lt H1 mf_rfl (mf_pl (mf_pi mf_rfl rfl) rfl) H1.2.1.2.2.2.2.1
      have gi : ∀ k i, sI (gt μ a b) k i = sI μ k i := fun k i => by simp only [gt, sF_pi, sF_pl, sF_ai, sF_al, sG_pi, sG_pl, sG_ai, sG_al, sI_pi, sI_pl, sI_al, sI_ai1, sI_ai2, sJ_pi, sJ_pl, sJ_ai, sJ_al1, sJ_al2, Nat.reduceEqDiff, if_true, if_false, ne_eq, not_false_eq_true, ite_true, ite_false]
      have gj : ∀ k i, sJ (gt μ a b) k i = sJ μ k i := fun k i => by simp only [gt, sF_pi, sF_pl, sF_ai, sF_al, sG_pi, sG_pl, sG_ai, sG_al, sI_pi, sI_pl, sI_al, sI_ai1, sI_ai2, sJ_pi, sJ_pl, sJ_ai, sJ_al1, sJ_al2, Nat.reduceEqDiff, if_true, if_false, ne_eq, not_false_eq_true, ite_true, ite_false]
      have er : sF σ1 396 = sF σ 396 := by simp only [σ1, sF_pi, sF_pl, sF_ai, sF_al, sG_pi, sG_pl, sG_ai, sG_al, sI_pi, sI_pl, sI_al, sI_ai1, sI_ai2, sJ_pi, sJ_pl, sJ_ai, sJ_al1, sJ_al2, Nat.reduceEqDiff, if_true, if_false, ne_eq, not_false_eq_true, ite_true, ite_false]
      have er2 : sF (gt μ a b) 154 = sF μ 154 := by simp only [gt, sF_pi, sF_pl, sF_ai, sF_al, sG_pi, sG_pl, sG_ai, sG_al, sI_pi, sI_pl, sI_al, sI_ai1, sI_ai2, sJ_pi, sJ_pl, sJ_ai, sJ_al1, sJ_al2, Nat.reduceEqDiff, if_true, if_false, ne_eq, not_false_eq_true, ite_true, ite_false]
      have OF : UO e w xf c d rest σ μ (fun z => ((-1 : Int32), z)) (xx6_look_b62 (eN e) tx σ1) (bd (mm_faultOf (eN e) (gt μ a b) 9 (sI (gt μ a b) 141 p) 10) (fun z => some ((-1 : Int32), z))) := by
        refine UO_wl (σ1 := σ1) (μ1 := gt μ a b) (w1 := w) (UO_bd (faultT_UO E H2 (by rw [gi]; exact v) (t := 3) (u := 9) (t' := 4) (u' := 10) (by decide) (by decide) tx_3 (by decide +kernel) (by decide) (by decide) tx_4 (by decide +kernel)) (fun z => rfl)) wle_rfl er er2
      rcases h3 with ⟨rfl, rfl, rfl⟩ | ⟨r0, r1, r2, r3, r4⟩
      · right
        have q1 : xx6_look (eN e) σ tx vx = xx6_look_b62 (eN e) tx σ1 := by
          simp (disch := lia) only [xx6_look, lt, gd_in, if_pos, if_neg, ↓reduceIte, gd_z0, gd_z1, gd_tt, sF_fold, sG_fold, sI_fold, sJ_fold, A1]
          rw [show md_pl (md_pi σ 408 tx) 409 vx = σ1 from rfl, h1]
          simp (disch := lia) only [bd, if_pos]
        have q2 : mm_callable (eN e) μ p n = bd (mm_faultOf (eN e) (gt μ 0 0) 9 (sI (gt μ 0 0) 141 p) 10) (fun z => some ((-1 : Int32), z)) := by
          simp (disch := lia) only [mm_callable, lt, gd_in, if_pos, if_neg, ↓reduceIte, gd_z0, gd_z1, gd_tt, sF_fold, sG_fold, sI_fold, sJ_fold, h2, bd, g42]
        rw [q1, q2]
        exact OF
      · by_cases t6' : sI σ 214 r = 6
        · have x14 : sI σ1 214 r = 6 := by simp only [σ1, sF_pi, sF_pl, sF_ai, sF_al, sG_pi, sG_pl, sG_ai, sG_al, sI_pi, sI_pl, sI_al, sI_ai1, sI_ai2, sJ_pi, sJ_pl, sJ_ai, sJ_al1, sJ_al2, Nat.reduceEqDiff, if_true, if_false, ne_eq, not_false_eq_true, ite_true, ite_false]; exact t6'
          have x14' := x14
          rw [show sI σ1 214 r = 6 from x14] at r4
          have a5 : a = 5 := (VV_tag r4).2.2.2.2.2.2.2.2.1.mp rfl
          subst a5
          by_cases n100 : n = 100
          · right
            have q1 : xx6_look (eN e) σ tx vx = bx (xx6_fault (eN e) σ1 (3000 + 2)) (fun z => some (Except.error (z.1, z.2))) := by
              simp (disch := lia) only [xx6_look, lt, gd_in, if_pos, if_neg, ↓reduceIte, gd_z0, gd_z1, gd_tt, sF_fold, sG_fold, sI_fold, sJ_fold, A1]
              rw [show md_pl (md_pi σ 408 tx) 409 vx = σ1 from rfl, h1]
              simp (disch := lia) only [bd, if_neg, if_pos, gd_in, sI_fold, sF_fold, x14, g399]
            have q2 : mm_callable (eN e) μ p n = bd (mm_fault_2 (eN e) (gt μ 5 b) 8) (fun z => some ((-1 : Int32), z)) := by
              simp (disch := lia) only [mm_callable, lt, gd_in, if_pos, if_neg, ↓reduceIte, gd_z0, gd_z1, gd_tt, sF_fold, sG_fold, sI_fold, sJ_fold, h2, bd, g42]
            rw [q1, q2]
            exact UO_wl (UO_bd (fault_UO E H2 (t := 2) (tm := 8) (by decide) (by decide) tx2 (by decide +kernel)) (fun z => rfl)) wle_rfl er er2
          · left
            obtain ⟨τ, l1, l2, l3, l4, l5, l6, l7⟩ := look_lp (N := eN e) (σ := σ1) (n := n) (t := tx) (h := r) (v := vx) n1 tv.1 tv.2.1 r0 r1 (fun k k0 k1 => by
              rw [g397]
              have := VV_tag (A5 k k0 k1)
              exact ⟨this.1, this.2.1⟩) g399 (eN e) n A2 (by lia) (big_d hN) σ1 mf_rfl g399 (fun k k0 k1 => by rw [if_neg (by lia), if_neg (by lia)]; exact ⟨rfl, rfl⟩)
            obtain ⟨τm, m1, m2, m3, m4, m5', m6, m7⟩ := callable_lp (N := eN e) (σ := gt μ 5 b) (p := p) (q := p + n + 1) (n := n) (g := 0) b1 (by lia) (by lia) (fun k k0 k1 => by
              rw [gi]
              by_cases q : k = p
              · rw [q]; exact ⟨tv.2.2.1, by lia⟩
              · have := VV_tag (A5 (k - p - 1) (by lia) (by lia))
                have ek : p + 1 + (k - p - 1) = k := by lia
                rw [ek] at this
                exact ⟨this.2.2.1, by lia⟩) (by simp only [gt, sF_pi, sF_pl, sF_ai, sF_al, sG_pi, sG_pl, sG_ai, sG_al, sI_pi, sI_pl, sI_al, sI_ai1, sI_ai2, sJ_pi, sJ_pl, sJ_ai, sJ_al1, sJ_al2, Nat.reduceEqDiff, if_true, if_false, ne_eq, not_false_eq_true, ite_true, ite_false]; exact A4) (eN e) (p + n + 1) (by lia) (by lia) (big_d hN) (gt μ 5 b) mf_rfl (by simp only [gt, sF_pi, sF_pl, sF_ai, sF_al, sG_pi, sG_pl, sG_ai, sG_al, sI_pi, sI_pl, sI_al, sI_ai1, sI_ai2, sJ_pi, sJ_pl, sJ_ai, sJ_al1, sJ_al2, Nat.reduceEqDiff, if_true, if_false, ne_eq, not_false_eq_true, ite_true, ite_false]; exact A4) (fun k k0 k1 => by rw [if_neg (by lia), if_neg (by lia)]; exact ⟨rfl, rfl⟩)
            have fxx : m_fr aK σ τ := mf_tr fx1 l2
            have fmm : m_fr lkM μ τm := mf_tr frg (mf_mono m2 (fun k hk => by
              simp only [lkM, cM, List.contains_cons, List.contains_nil, Bool.or_eq_false_iff, beq_eq_false_iff_ne] at hk ⊢
              (repeat' (first | exact trivial | omega | apply And.intro))))
            refine ⟨n + 1, τ, τm, ?_, ?_, by lia, (fun i i0 i1 => ?_), ⟨l3, by lia, by lia, by rw [m3]; lia, fun k k0 k1 => ?_⟩, m5', ?_, fxx, fmm⟩
            · simp (disch := lia) only [xx6_look, lt, gd_in, if_pos, if_neg, ↓reduceIte, gd_z0, gd_z1, gd_tt, sF_fold, sG_fold, sI_fold, sJ_fold, A1]
              rw [show md_pl (md_pi σ 408 tx) 409 vx = σ1 from rfl, h1]
              simp (disch := lia) only [bd, if_neg, if_pos, gd_in, sI_fold, sF_fold, x14, g399, lt]
              exact l1
            · simp (disch := lia) only [mm_callable, lt, gd_in, if_pos, if_neg, ↓reduceIte, gd_z0, gd_z1, gd_tt, sF_fold, sG_fold, sI_fold, sJ_fold, h2, bd, g42]
              have e143 : sF (gt μ 5 b) 143 = p + n + 1 := by simp only [gt, sF_pi, sF_pl, sF_ai, sF_al, sG_pi, sG_pl, sG_ai, sG_al, sI_pi, sI_pl, sI_al, sI_ai1, sI_ai2, sJ_pi, sJ_pl, sJ_ai, sJ_al1, sJ_al2, Nat.reduceEqDiff, if_true, if_false, ne_eq, not_false_eq_true, ite_true, ite_false]; exact A4
              rw [e143]
              exact m1
            · have := m7 i i0 i1
              rw [gi, gj] at this
              exact this
            · by_cases q : k = 0
              · subst q
                rw [l5, l6]
                have := m4 (p + 1 + 0) (by lia) (by lia)
                rw [this.1, this.2, gi, gj, show p + 1 + 0 - 1 = p by lia]
                exact v
              · have h4 := l4 k (by lia) (by lia)
                have := m4 (p + 1 + k) (by lia) (by lia)
                rw [this.1, this.2, gi, gj, h4.1, h4.2, g397, g398, show p + 1 + k - 1 = p + 1 + (k - 1) by lia]
                exact A5 (k - 1) (by lia) (by lia)
            · have e1 : sJ σ1 215 r = sJ σ 215 r := by simp only [σ1, sF_pi, sF_pl, sF_ai, sF_al, sG_pi, sG_pl, sG_ai, sG_al, sI_pi, sI_pl, sI_al, sI_ai1, sI_ai2, sJ_pi, sJ_pl, sJ_ai, sJ_al1, sJ_al2, Nat.reduceEqDiff, if_true, if_false, ne_eq, not_false_eq_true, ite_true, ite_false]
              rw [l7, m6]
              have e2 : sG (gt μ 5 b) 43 = b := by simp only [gt, sF_pi, sF_pl, sF_ai, sF_al, sG_pi, sG_pl, sG_ai, sG_al, sI_pi, sI_pl, sI_al, sI_ai1, sI_ai2, sJ_pi, sJ_pl, sJ_ai, sJ_al1, sJ_al2, Nat.reduceEqDiff, if_true, if_false, ne_eq, not_false_eq_true, ite_true, ite_false]
              rw [e2]
              exact r4
        · right
          have x14 : ¬ sI σ1 214 r = 6 := by simp only [σ1, sF_pi, sF_pl, sF_ai, sF_al, sG_pi, sG_pl, sG_ai, sG_al, sI_pi, sI_pl, sI_al, sI_ai1, sI_ai2, sJ_pi, sJ_pl, sJ_ai, sJ_al1, sJ_al2, Nat.reduceEqDiff, if_true, if_false, ne_eq, not_false_eq_true, ite_true, ite_false]; exact t6'
          have a5 : a ≠ 5 := fun z => x14 ((VV_tag r4).2.2.2.2.2.2.2.2.1.mpr z)
          have q1 : xx6_look (eN e) σ tx vx = xx6_look_b62 (eN e) tx σ1 := by
            simp (disch := lia) only [xx6_look, lt, gd_in, if_pos, if_neg, ↓reduceIte, gd_z0, gd_z1, gd_tt, sF_fold, sG_fold, sI_fold, sJ_fold, A1]
            rw [show md_pl (md_pi σ 408 tx) 409 vx = σ1 from rfl, h1]
            simp (disch := lia) only [bd, if_neg, gd_in, sI_fold, x14]
          have q2 : mm_callable (eN e) μ p n = bd (mm_faultOf (eN e) (gt μ a b) 9 (sI (gt μ a b) 141 p) 10) (fun z => some ((-1 : Int32), z)) := by
            simp (disch := lia) only [mm_callable, lt, gd_in, if_pos, if_neg, ↓reduceIte, gd_z0, gd_z1, gd_tt, sF_fold, sG_fold, sI_fold, sJ_fold, h2, bd, g42]
          rw [q1, q2]
          exact OF
  · right
    have q1 : xx6_look (eN e) σ tx vx = bx (xx6_fault (eN e) σ (3000 + 2)) (fun z => some (Except.error (z.1, z.2))) := by
      simp (disch := lia) only [xx6_look, lt, gd_in, if_pos, if_neg, ↓reduceIte, gd_z0, gd_z1, gd_tt, sF_fold, sG_fold, sI_fold, sJ_fold, A1]
    have q2 : mm_callable (eN e) μ p n = bd (mm_fault_2 (eN e) μ 8) (fun z => some ((-1 : Int32), z)) := by
      simp (disch := lia) only [mm_callable, lt, gd_in, if_pos, if_neg, ↓reduceIte, gd_z0, gd_z1, gd_tt, sF_fold, sG_fold, sI_fold, sJ_fold]
    rw [q1, q2]
    exact UO_bd (fault_UO E H (t := 2) (tm := 8) (by decide) (by decide) tx2 (by decide +kernel)) (fun z => rfl)
theorem BG_en {e : EV} (E : EVok e) (EK : KOK e) (LB : LBst e) {M : Nat} (hM : M + 1 < eN e) {F n0 : Int32} (HGs : ∀ F', 0 ≤ F' → F' < F → HG e M F' 200) (RA : RAst e M F n0 200) {w : WD} {xf : Int32 → List Int32} {c d : Int32} {rest : PL2} {ct : CT} {τ τm : mS} {n' : Int32} {m dx dm : Nat} (C1 : CL e w xf c d rest ct τ τm) (A1 : AR w τ τm ct.2.2.2.1 n') (l3 : n' ≤ 100) (h5 : sI τm 141 ct.2.2.2.1 = 5) (vf : VV w 6 (sG τ 409) 5 (sJ τm 142 ct.2.2.2.1)) (eF : sF τ 396 = F) (hn0 : sF τm 154 - 1 ≤ n0) (hm : 200 - (sF τ 358).toInt ≤ (m : Nat)) (hx : 5 * m + 15 ≤ dx) (hd : 4 * m + 16 ≤ dm) : G2 e 1000 (M + 1) (bx (xx6_takeFuel (eN e) τ) (fun z2 => bx (bxx6_enter (eN e) (rc_xx6_begin (eN e) (dx + 3)) z2 ct.1 ct.2.1 ct.2.2.1) (fun z3 => some (.ok z3)))) (mb_enter (eN e) (rc_call (eN e) (dm + 2)) τm ct.2.2.2.1 n' ct.2.2.2.2.1 ct.2.2.2.2.2) := by
  have n2 := nn_200 C1
  have N1 := (CL_n C1).1
  rcases fuel_2 E C1 with ⟨f0, f1, f2, C2⟩ | ⟨f0, OE1⟩
  · rw [eF] at f0 f1 f2 C2
    obtain ⟨u1, u2, u3⟩ := fu_1 f0
    have G := HGs (F - 1) u1 u2
    have A2 : AR w (md_pi τ 396 (F - 1)) (md_pi τm 180 (F - 1)) ct.2.2.2.1 n' := AR_fr A1 wle_rfl (P := fun k => [396].contains k) (Q := fun k => [180].contains k) (mf_pi mf_rfl rfl) (mf_pi mf_rfl rfl) rfl rfl rfl rfl rfl rfl
    have BG' : ∀ m', m = m' + 1 → BGst e M (F - 1) 200 m' := fun m' h => BG_all E EK LB hM m' (F - 1) 200 (fun F' h0 h1 => HGs F' h0 (u3 F' h1)) (GFR E G hM 200).2
    have hF2 : sF (md_pi τ 396 (F - 1)) 396 = F - 1 := by simp only [sF_pi, sF_pl, sF_ai, sF_al, sG_pi, sG_pl, sG_ai, sG_al, sI_pi, sI_pl, sI_al, sI_ai1, sI_ai2, sJ_pi, sJ_pl, sJ_ai, sJ_al1, sJ_al2, Nat.reduceEqDiff, if_true, if_false, ne_eq, not_false_eq_true, ite_true, ite_false]
    have hm2 : 200 - (sF (md_pi τ 396 (F - 1)) 358).toInt ≤ (m : Nat) := by simp only [sF_pi, sF_pl, sF_ai, sF_al, sG_pi, sG_pl, sG_ai, sG_al, sI_pi, sI_pl, sI_al, sI_ai1, sI_ai2, sJ_pi, sJ_pl, sJ_ai, sJ_al1, sJ_al2, Nat.reduceEqDiff, if_true, if_false, ne_eq, not_false_eq_true, ite_true, ite_false]; exact hm
    obtain ⟨a, b, ea, eb, hab⟩ := VV_fn vf
    have h5' : sI (md_pi τm 180 (F - 1)) 141 ct.2.2.2.1 = 5 := by simp only [sF_pi, sF_pl, sF_ai, sF_al, sG_pi, sG_pl, sG_ai, sG_al, sI_pi, sI_pl, sI_al, sI_ai1, sI_ai2, sJ_pi, sJ_pl, sJ_ai, sJ_al1, sJ_al2, Nat.reduceEqDiff, if_true, if_false, ne_eq, not_false_eq_true, ite_true, ite_false]; exact h5
    have jb : sJ (md_pi τm 180 (F - 1)) 142 ct.2.2.2.1 = Int32.toInt64 b := by simp only [sF_pi, sF_pl, sF_ai, sF_al, sG_pi, sG_pl, sG_ai, sG_al, sI_pi, sI_pl, sI_al, sI_ai1, sI_ai2, sJ_pi, sJ_pl, sJ_ai, sJ_al1, sJ_al2, Nat.reduceEqDiff, if_true, if_false, ne_eq, not_false_eq_true, ite_true, ite_false]; exact eb
    have ja : sG (md_pi τ 396 (F - 1)) 409 = Int32.toInt64 a := by simp only [sF_pi, sF_pl, sF_ai, sF_al, sG_pi, sG_pl, sG_ai, sG_al, sI_pi, sI_pl, sI_al, sI_ai1, sI_ai2, sJ_pi, sJ_pl, sJ_ai, sJ_al1, sJ_al2, Nat.reduceEqDiff, if_true, if_false, ne_eq, not_false_eq_true, ite_true, ite_false]; exact ea
    rw [f1]
    show G2 e 1000 (M + 1) (bx (bxx6_enter (eN e) (rc_xx6_begin (eN e) (dx + 3)) (md_pi τ 396 (F - 1)) ct.1 ct.2.1 ct.2.2.1) (fun z3 => some (.ok z3))) _
    rw [bx_ok, mb_enter, f2]
    generalize md_pi τm 180 (F - 1) = ν at *
    generalize md_pi τ 396 (F - 1) = ρ at *
    show G2 e 1000 (M + 1) _ (if (1 : Int32) = 0 then some ν else gd (inB ct.2.2.2.1 500000) (lt (Int64.toInt32 (sJ ν 142 ct.2.2.2.1)) (fun x2 : Int32 => (if ((64 : Int32) : Int32) ≤ (x2 : Int32) then gd (inB (x2) 4100) ((if 0 ≤ sI ν 45 x2 then bd (mm_mayOpen (eN e) ν) (fun z3 => (if (z3.1 : Int32) = 0 then some z3.2 else bd (mm_enterScript (eN e) z3.2 (x2) ct.2.2.2.1 n' ct.2.2.2.2.1 ct.2.2.2.2.2) (fun z4 => some z4))) else bd (mm_mayOpen (eN e) ν) (fun z5 => (if (z5.1 : Int32) = 0 then some z5.2 else bd (mm_gather (eN e) z5.2 (ct.2.2.2.1 + 1) n') (fun z6 => lt (md_pi z6 143 ct.2.2.2.1) (fun σ7 : mS => gd (inB (x2) 4100) (bd ((rc_call (eN e) (dm + 2)).2.2.2 σ7 ((-1 : Int32) - sI σ7 45 x2) ((3 : Int32)) ct.2.2.2.1 ct.2.2.2.2.1 ct.2.2.2.2.2) (fun z8 => some z8)))))))) else bd (mb_enterOwn (eN e) (rc_call (eN e) (dm + 1)) ν x2 ct.2.2.2.1 n' ct.2.2.2.2.1 ct.2.2.2.2.2) (fun z9 => some z9)))))
    rw [if_neg (by decide), gd_in (by decide) N1.1 (Int32.lt_of_le_of_lt N1.2.1 (by decide)), jb, h_ll]
    simp only [lt]
    rcases hab with hF' | ⟨b0, b1, rfl⟩
    · have rr := RF_rng C2.1.1.1.2.2.2.1 hF'
      rw [if_pos rr.2.2.1, gd_in (by decide) (Int32.le_trans (by decide) rr.2.2.1) (Int32.lt_trans rr.2.2.2 (by decide))]
      exact enterF_2 E EK hM G BG' C2 A2 l3 h5' hF' ja jb hF2 hm2 (dx := dx + 2) (dm := dm + 1) (by omega) (by omega)
    · have b64 : ¬ (64 : Int32) ≤ b := by
        clear HGs RA BG'
        exact fun z => absurd (Int32.lt_of_lt_of_le b1 (Int32.le_trans (by decide) z)) Int32.lt_irrefl
      have eb' : Int32.ofNat b.toNatClampNeg = b := oN_cl' b0
      have lb : b.toNatClampNeg < 46 := by
        rw [tI_lt] at b1
        have z : (46 : Int32).toInt = 46 := rfl
        rw [tI_cl]; omega
      rw [if_neg b64, bd_id]
      have r := enterO_2 E LB hM G BG' lb C2 A2 l3 h5' (by rw [eb']; exact ja) (by rw [eb']; exact jb) hF2 hm2 (dx := dx) (dm := dm) (by omega) (by omega)
      rw [eb'] at r
      exact r
  · have em2 : OE e w xf c d rest ct τ τm (fun z => z) (bx (xx6_takeFuel (eN e) τ) (fun z2 => bx (bxx6_enter (eN e) (rc_xx6_begin (eN e) (dx + 3)) z2 ct.1 ct.2.1 ct.2.2.1) (fun z3 => some (.ok z3)))) (mb_enter (eN e) (rc_call (eN e) (dm + 2)) τm ct.2.2.2.1 n' ct.2.2.2.2.1 ct.2.2.2.2.2) := OE_bd (OE_bx OE1) (fun z => by rw [if_pos rfl])
    exact OE_G2 E RA em2 eF hn0 n2.2
