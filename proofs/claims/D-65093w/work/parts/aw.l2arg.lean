/-! LAYER 2: fuel, room, arguments; what is called is looked at, on both sides -/
theorem tx_3 : xtx 3 = mtx 9 := by decide +kernel
theorem tx_4 : xtx 4 = mtx 10 := by decide +kernel
theorem CL_fu {e : EV} {w : WD} {xf : Int32 → List Int32} {c d : Int32} {rest : PL2} {ct : CT} {σ μ : mS} {F : Int32} (H : CL e w xf c d rest ct σ μ) (h : 0 ≤ F) : CL e w xf c d rest ct (md_pi σ 396 F) (md_pi μ 180 F) := by
  have fr : m_fr (fun k => k == 396) σ (md_pi σ 396 F) := mf_pi mf_rfl rfl
  have frm : m_fr (fun k => k == 180) μ (md_pi μ 180 F) := mf_pi mf_rfl rfl
  have hp : ∀ k, kX k → (k == 396) = false := fun k hk => by simp only [kX] at hk; simp only [beq_eq_false_iff_ne]; omega
  have hq : ∀ k, kM k → (k == 180) = false := fun k hk => by simp only [kM] at hk; simp only [beq_eq_false_iff_ne]; omega
  have p' : ∀ k, k ≠ 396 → (k == 396) = false := fun k hk => by simpa using hk
  have q' : ∀ k, k ≠ 180 → (k == 180) = false := fun k hk => by simpa using hk
  have hc : cds w σ (md_pi σ 396 F) := cds_fr fr rfl rfl rfl
  have V' : SV e w (md_pi σ 396 F) (md_pi μ 180 F) := SV_fr H.2.1 wle_rfl fr frm (fun k hk => p' k (fun q => by subst q; rcases hk with z | z; exact absurd z (by decide); omega)) (fun k hk => q' k (fun q => by subst q; rcases hk with z | z; exact absurd z (by decide); omega))
  obtain ⟨⟨RR, h1⟩, Z, HH, h4, h5, h6, h7, h8, h9, h10, h10', h11⟩ := H.1
  refine CL_fr H ⟨⟨by rw [fQ_e (mf_F frm rfl) (mf_I frm rfl)]; exact RH_fr RR fr frm (fun k a b => p' k (by omega)) (fun k a b _ _ _ _ _ _ => q' k (by omega)), h1⟩, ZS_fr Z fr rfl, HO_fr HH wle_rfl fr frm (fun k hk => p' k (by omega)) (fun k a b => q' k (by omega)) (fun a b _ => xL_fr fr (fun k a b => p' k (by omega))) (fun k _ => by rw [frm.2.2.1 44 rfl]), XF_fr h4 rfl fr hp, CO_fr h5 wle_rfl rfl hc fr frm hp hq, BC_fr wle_rfl hc fr frm hp hq h6, h7, h8, ?_, ?_, ?_, ?_⟩ V' wle_rfl hc fr frm hp hq
  · have ks : kSum w (md_pi μ 180 F) = kSum w μ := by
      simp only [kSum]
      congr 1
    rw [mf_F fr rfl, mf_F frm rfl, mf_F frm rfl, ks]; exact h9
  · simp only [sF_pi, sF_pl, sF_ai, sF_al, sG_pi, sG_pl, sG_ai, sG_al, sI_pi, sI_pl, sI_al, sI_ai1, sI_ai2, sJ_pi, sJ_pl, sJ_ai, sJ_al1, sJ_al2, Nat.reduceEqDiff, if_true, if_false, ne_eq, not_false_eq_true, ite_true, ite_false]
  · simp only [sF_pi, sF_pl, sF_ai, sF_al, sG_pi, sG_pl, sG_ai, sG_al, sI_pi, sI_pl, sI_al, sI_ai1, sI_ai2, sJ_pi, sJ_pl, sJ_ai, sJ_al1, sJ_al2, Nat.reduceEqDiff, if_true, if_false, ne_eq, not_false_eq_true, ite_true, ite_false]; exact h
  · rw [mf_F frm rfl]; exact h11
theorem fuel_2 {e : EV} (E : EVok e) {w : WD} {xf : Int32 → List Int32} {c d : Int32} {rest : PL2} {ct : CT} {σ μ : mS} (H : CL e w xf c d rest ct σ μ) : (0 < sF σ 396 ∧ xx6_takeFuel (eN e) σ = some (.ok (md_pi σ 396 (sF σ 396 - 1))) ∧ mm_takeFuel (eN e) μ = some (1, md_pi μ 180 (sF σ 396 - 1)) ∧ CL e w xf c d rest ct (md_pi σ 396 (sF σ 396 - 1)) (md_pi μ 180 (sF σ 396 - 1))) ∨ (sF σ 396 = 0 ∧ OE e w xf c d rest ct σ μ (fun z => ((0 : Int32), z)) (xx6_takeFuel (eN e) σ) (mm_takeFuel (eN e) μ)) := by
  have f1 := H.1.2.2.2.2.2.2.2.2.2.1
  have f2 := H.1.2.2.2.2.2.2.2.2.2.2.1
  by_cases z : sF σ 396 = 0
  · refine .inr ⟨z, .inr ⟨w, σ, μ, 1116, 2, .inr ⟨rfl, rfl⟩, fuel_x0 z, fun μ' hm => ⟨μ', ?_, mf_rfl⟩, H⟩⟩
    rw [fuel_m0 (by rw [← f1]; exact z), hm]; rfl
  · refine .inl ⟨by lia, fuel_x1 z, ?_, CL_fu H (by lia)⟩
    rw [fuel_m1 (by rw [← f1]; exact z), f1]
theorem open_2 {e : EV} (E : EVok e) {w : WD} {xf : Int32 → List Int32} {c d : Int32} {rest : PL2} {ct : CT} {σ μ : mS} (H : CL e w xf c d rest ct σ μ) : (sF σ 358 < 200 ∧ xx6_mayOpen (eN e) σ = some (.ok σ) ∧ mm_mayOpen (eN e) μ = some (1, μ)) ∨ OE e w xf c d rest ct σ μ (fun z => ((0 : Int32), z)) (xx6_mayOpen (eN e) σ) (mm_mayOpen (eN e) μ) := by
  obtain ⟨o1, o2, o3, _⟩ := H.1.2.2.2.2.2.2.2.2.1
  by_cases z : sF σ 358 < 200
  · exact .inl ⟨z, open_x1 z, open_m1 (by lia)⟩
  · right
    rw [open_x0 z, open_m0 (by lia)]
    exact OE_bd (fault_OE E H (t := 5) (tm := 11) (by decide) (by decide) tx_5 (by decide +kernel)) (fun z => rfl)
/-- arguments: the system's row, and behind a place of the pile -/
def AR (w : WD) (σ μ : mS) (p n : Int32) : Prop := sF σ 399 = n ∧ 0 ≤ n ∧ n ≤ 145 ∧ sF μ 143 = p + n + 1 ∧ ∀ k, 0 ≤ k → k < n → VV w (sI σ 397 k) (sJ σ 398 k) (sI μ 141 (p + 1 + k)) (sJ μ 142 (p + 1 + k))
theorem AR_fr {P Q : Nat → Bool} {w w' : WD} {σ μ τ τm : mS} {p n : Int32} (H : AR w σ μ p n) (wl : wle w w') (fr : m_fr P σ τ) (frm : m_fr Q μ τm) (p7 : P 397 = false) (p8 : P 398 = false) (p9 : P 399 = false) (q1 : Q 141 = false) (q2 : Q 142 = false) (q3 : Q 143 = false) : AR w' τ τm p n := by
  obtain ⟨a1, a2, a3, a4, a5⟩ := H
  refine ⟨by rw [mf_F fr p9]; exact a1, a2, a3, by rw [mf_F frm q3]; exact a4, fun k k0 k1 => ?_⟩
  rw [mf_I fr p7, mf_J fr p8, mf_I frm q1, mf_J frm q2]
  exact VV_mono wl (a5 k k0 k1)
def lkM (k : Nat) : Bool := [42, 43, 141, 142, 143].contains k
theorem lkM_ag {μ τm : mS} (h : m_fr lkM μ τm) : m_fr agM μ τm := mf_mono h (fun k hk => by
  simp only [agM, lkM, inR, List.contains_cons, List.contains_nil, Bool.or_eq_false_iff, beq_eq_false_iff_ne, Bool.and_eq_false_iff, decide_eq_false_iff_not] at hk ⊢
  (repeat' (first | exact trivial | omega | apply And.intro)))
theorem aK_lt {σ τ : mS} (h : m_fr aK σ τ) : m_fr ltX σ τ := mf_mono h (fun k hk => by
  simp only [ltX, aK, inR, List.contains_cons, List.contains_nil, Bool.or_eq_false_iff, beq_eq_false_iff_ne, Bool.or_eq_false_iff, Bool.and_eq_false_iff, decide_eq_false_iff_not] at hk ⊢
  (repeat' (first | exact trivial | omega | apply And.intro)))
theorem look_2 {e : EV} (E : EVok e) {w : WD} {xf : Int32 → List Int32} {c d : Int32} {rest : PL2} {ct : CT} {σ μ : mS} {p n tx : Int32} {vx : Int64} (H : CL e w xf c d rest ct σ μ) (A : AR w σ μ p n) (hp : p = ct.2.2.2.1) (v : VV w tx vx (sI μ 141 p) (sJ μ 142 p)) (t8 : tx ≠ 8) :
    (∃ n' τ τm, xx6_look (eN e) σ tx vx = some (.ok τ) ∧ mm_callable (eN e) μ p n = some (n', τm) ∧ n' ≤ 100 ∧ CL e w xf c d rest ct τ τm ∧ AR w τ τm p n' ∧ sI τm 141 p = 5 ∧ VV w 6 (sG τ 409) 5 (sJ τm 142 p) ∧ m_fr aK σ τ ∧ m_fr lkM μ τm)
    ∨ OE e w xf c d rest ct σ μ (fun z => ((-1 : Int32), z)) (xx6_look (eN e) σ tx vx) (mm_callable (eN e) μ p n) := by
  have hN := EV_N E
  have bb := CL_b H
  have f406 := CL_0 H
  rw [← hp] at bb
  obtain ⟨A1, A2, A3, A4, A5⟩ := A
  have tv := VV_tag v
  obtain ⟨b1, b2, b3, b4⟩ := bb
  clear b3 b4
  have tx2 : xtx 2 = mtx 8 := tx_2
  by_cases n1 : n ≤ 100
  · let σ1 := md_pl (md_pi σ 408 tx) 409 vx
    have fx1 : m_fr aK σ σ1 := mf_pl (mf_pi mf_rfl rfl) rfl
    have g399 : sF σ1 399 = n := by simp only [σ1, sF_pi, sF_pl, sF_ai, sF_al, sG_pi, sG_pl, sG_ai, sG_al, sI_pi, sI_pl, sI_al, sI_ai1, sI_ai2, sJ_pi, sJ_pl, sJ_ai, sJ_al1, sJ_al2, Nat.reduceEqDiff, if_true, if_false, ne_eq, not_false_eq_true, ite_true, ite_false]; exact A1
    have H1 : CL e w xf c d rest ct σ1 μ := CL_lt H (aK_lt fx1) mf_rfl (by simp only [σ1, sF_pi, sF_pl, sF_ai, sF_al, sG_pi, sG_pl, sG_ai, sG_al, sI_pi, sI_pl, sI_al, sI_ai1, sI_ai2, sJ_pi, sJ_pl, sJ_ai, sJ_al1, sJ_al2, Nat.reduceEqDiff, if_true, if_false, ne_eq, not_false_eq_true, ite_true, ite_false]; exact f406)
    have g397 : ∀ k, sI σ1 397 k = sI σ 397 k := fun k => by simp only [σ1, sF_pi, sF_pl, sF_ai, sF_al, sG_pi, sG_pl, sG_ai, sG_al, sI_pi, sI_pl, sI_al, sI_ai1, sI_ai2, sJ_pi, sJ_pl, sJ_ai, sJ_al1, sJ_al2, Nat.reduceEqDiff, if_true, if_false, ne_eq, not_false_eq_true, ite_true, ite_false]
    have g398 : ∀ k, sJ σ1 398 k = sJ σ 398 k := fun k => by simp only [σ1, sF_pi, sF_pl, sF_ai, sF_al, sG_pi, sG_pl, sG_ai, sG_al, sI_pi, sI_pl, sI_al, sI_ai1, sI_ai2, sJ_pi, sJ_pl, sJ_ai, sJ_al1, sJ_al2, Nat.reduceEqDiff, if_true, if_false, ne_eq, not_false_eq_true, ite_true, ite_false]
    by_cases t6 : tx = 6
    · have m5 : sI μ 141 p = 5 := tv.2.2.2.2.2.2.2.2.1.mp t6
      refine .inl ⟨n, σ1, μ, ?_, ?_, n1, H1, ⟨g399, A2, A3, A4, fun k k0 k1 => by rw [g397, g398]; exact A5 k k0 k1⟩, m5, ?_, fx1, mf_rfl⟩
      · simp (disch := lia) only [xx6_look, xx6_look_b182, lt, gd_in, if_pos, if_neg, ↓reduceIte, gd_z0, gd_z1, gd_tt, sF_fold, sG_fold, sI_fold, sJ_fold, A1, t6]
        simp only [σ1, t6]
      · simp (disch := lia) only [mm_callable, lt, gd_in, if_pos, if_neg, ↓reduceIte, gd_z0, gd_z1, gd_tt, sF_fold, sG_fold, sI_fold, sJ_fold, m5]
      · have : sG σ1 409 = vx := by simp only [σ1, sF_pi, sF_pl, sF_ai, sF_al, sG_pi, sG_pl, sG_ai, sG_al, sI_pi, sI_pl, sI_al, sI_ai1, sI_ai2, sJ_pi, sJ_pl, sJ_ai, sJ_al1, sJ_al2, Nat.reduceEqDiff, if_true, if_false, ne_eq, not_false_eq_true, ite_true, ite_false]
        rw [this, ← m5, ← t6]; exact v
    · have m5 : sI μ 141 p ≠ 5 := fun z => t6 (tv.2.2.2.2.2.2.2.2.1.mpr z)
      obtain ⟨r, a, b, h1, h2, h3⟩ := handler_2 hN H1.1.1.1 H1.1.2.2.1 v (k := 2) (by decide)
      have hk2 : Int32.ofNat 2 = (2 : Int32) := rfl
      have hn2 : sF μ (hnm.getD 2 0) = sF μ 195 := rfl
      rw [hk2] at h1
      rw [hn2] at h2
      have g42 : sF (gt μ a b) 42 = a := by simp only [gt, sF_pi, sF_pl, sF_ai, sF_al, sG_pi, sG_pl, sG_ai, sG_al, sI_pi, sI_pl, sI_al, sI_ai1, sI_ai2, sJ_pi, sJ_pl, sJ_ai, sJ_al1, sJ_al2, Nat.reduceEqDiff, if_true, if_false, ne_eq, not_false_eq_true, ite_true, ite_false]
      have frg : m_fr lkM μ (gt μ a b) := mf_pl (mf_pi mf_rfl rfl) rfl
      have H2 : CL e w xf c d rest ct σ1 (gt μ a b) := CL_ag H1 mf_rfl (lkM_ag frg) (CL_0 H1) (fun i _ _ => ⟨by simp only [gt, sF_pi, sF_pl, sF_ai, sF_al, sG_pi, sG_pl, sG_ai, sG_al, sI_pi, sI_pl, sI_al, sI_ai1, sI_ai2, sJ_pi, sJ_pl, sJ_ai, sJ_al1, sJ_al2, Nat.reduceEqDiff, if_true, if_false, ne_eq, not_false_eq_true, ite_true, ite_false], by simp only [gt, sF_pi, sF_pl, sF_ai, sF_al, sG_pi, sG_pl, sG_ai, sG_al, sI_pi, sI_pl, sI_al, sI_ai1, sI_ai2, sJ_pi, sJ_pl, sJ_ai, sJ_al1, sJ_al2, Nat.reduceEqDiff, if_true, if_false, ne_eq, not_false_eq_true, ite_true, ite_false]⟩)
      have gi : ∀ k i, sI (gt μ a b) k i = sI μ k i := fun k i => by simp only [gt, sF_pi, sF_pl, sF_ai, sF_al, sG_pi, sG_pl, sG_ai, sG_al, sI_pi, sI_pl, sI_al, sI_ai1, sI_ai2, sJ_pi, sJ_pl, sJ_ai, sJ_al1, sJ_al2, Nat.reduceEqDiff, if_true, if_false, ne_eq, not_false_eq_true, ite_true, ite_false]
      have gj : ∀ k i, sJ (gt μ a b) k i = sJ μ k i := fun k i => by simp only [gt, sF_pi, sF_pl, sF_ai, sF_al, sG_pi, sG_pl, sG_ai, sG_al, sI_pi, sI_pl, sI_al, sI_ai1, sI_ai2, sJ_pi, sJ_pl, sJ_ai, sJ_al1, sJ_al2, Nat.reduceEqDiff, if_true, if_false, ne_eq, not_false_eq_true, ite_true, ite_false]
      have er : sF σ1 396 = sF σ 396 := by simp only [σ1, sF_pi, sF_pl, sF_ai, sF_al, sG_pi, sG_pl, sG_ai, sG_al, sI_pi, sI_pl, sI_al, sI_ai1, sI_ai2, sJ_pi, sJ_pl, sJ_ai, sJ_al1, sJ_al2, Nat.reduceEqDiff, if_true, if_false, ne_eq, not_false_eq_true, ite_true, ite_false]
      have er2 : sF (gt μ a b) 154 = sF μ 154 := by simp only [gt, sF_pi, sF_pl, sF_ai, sF_al, sG_pi, sG_pl, sG_ai, sG_al, sI_pi, sI_pl, sI_al, sI_ai1, sI_ai2, sJ_pi, sJ_pl, sJ_ai, sJ_al1, sJ_al2, Nat.reduceEqDiff, if_true, if_false, ne_eq, not_false_eq_true, ite_true, ite_false]
      have OF : OE e w xf c d rest ct σ μ (fun z => ((-1 : Int32), z)) (xx6_look_b62 (eN e) tx σ1) (bd (mm_faultOf (eN e) (gt μ a b) 9 (sI (gt μ a b) 141 p) 10) (fun z => some ((-1 : Int32), z))) := by
        refine OE_of (σ1 := σ1) (μ1 := gt μ a b) (w1 := w) (OE_bd (faultT_OE E H2 (by rw [gi]; exact v) t8 (t := 3) (u := 9) (t' := 4) (u' := 10) (by decide) (by decide) tx_3 (by decide +kernel) (by decide) (by decide) tx_4 (by decide +kernel)) (fun z => rfl)) wle_rfl er er2
      rcases h3 with ⟨rfl, rfl, rfl⟩ | ⟨r0, r1, r2, r3, r4⟩
      · right
        have q1 : xx6_look (eN e) σ tx vx = xx6_look_b62 (eN e) tx σ1 := by
          simp (disch := lia) only [xx6_look, lt, gd_in, if_pos, if_neg, ↓reduceIte, gd_z0, gd_z1, gd_tt, sF_fold, sG_fold, sI_fold, sJ_fold, A1]
          rw [show md_pl (md_pi σ 408 tx) 409 vx = σ1 from rfl, h1]
          simp (disch := lia) only [bd, if_pos]
        have q2 : mm_callable (eN e) μ p n = bd (mm_faultOf (eN e) (gt μ 0 0) 9 (sI (gt μ 0 0) 141 p) 10) (fun z => some ((-1 : Int32), z)) := by
          simp (disch := lia) only [mm_callable, lt, gd_in, if_pos, if_neg, ↓reduceIte, gd_z0, gd_z1, gd_tt, sF_fold, sG_fold, sI_fold, sJ_fold, h2, bd, g42]
        rw [q1, q2]
        exact OF
      · by_cases t6' : sI σ 214 r = 6
        · have x14 : sI σ1 214 r = 6 := by simp only [σ1, sF_pi, sF_pl, sF_ai, sF_al, sG_pi, sG_pl, sG_ai, sG_al, sI_pi, sI_pl, sI_al, sI_ai1, sI_ai2, sJ_pi, sJ_pl, sJ_ai, sJ_al1, sJ_al2, Nat.reduceEqDiff, if_true, if_false, ne_eq, not_false_eq_true, ite_true, ite_false]; exact t6'
          have x14' := x14
          rw [show sI σ1 214 r = 6 from x14] at r4
          have a5 : a = 5 := (VV_tag r4).2.2.2.2.2.2.2.2.1.mp rfl
          subst a5
          by_cases n100 : n = 100
          · right
            have q1 : xx6_look (eN e) σ tx vx = bx (xx6_fault (eN e) σ1 (3000 + 2)) (fun z => some (Except.error (z.1, z.2))) := by
              simp (disch := lia) only [xx6_look, lt, gd_in, if_pos, if_neg, ↓reduceIte, gd_z0, gd_z1, gd_tt, sF_fold, sG_fold, sI_fold, sJ_fold, A1]
              rw [show md_pl (md_pi σ 408 tx) 409 vx = σ1 from rfl, h1]
              simp (disch := lia) only [bd, if_neg, if_pos, gd_in, sI_fold, sF_fold, x14, g399]
            have q2 : mm_callable (eN e) μ p n = bd (mm_fault_2 (eN e) (gt μ 5 b) 8) (fun z => some ((-1 : Int32), z)) := by
              simp (disch := lia) only [mm_callable, lt, gd_in, if_pos, if_neg, ↓reduceIte, gd_z0, gd_z1, gd_tt, sF_fold, sG_fold, sI_fold, sJ_fold, h2, bd, g42]
            rw [q1, q2]
            exact OE_of (OE_bd (fault_OE E H2 (t := 2) (tm := 8) (by decide) (by decide) tx2 (by decide +kernel)) (fun z => rfl)) wle_rfl er er2
          · left
            obtain ⟨τ, l1, l2, l3, l4, l5, l6, l7⟩ := look_lp (N := eN e) (σ := σ1) (n := n) (t := tx) (h := r) (v := vx) n1 tv.1 tv.2.1 r0 r1 (fun k k0 k1 => by
              rw [g397]
              have := VV_tag (A5 k k0 k1)
              exact ⟨this.1, this.2.1⟩) g399 (eN e) n A2 (by lia) (big_d hN) σ1 mf_rfl g399 (fun k k0 k1 => by rw [if_neg (by lia), if_neg (by lia)]; exact ⟨rfl, rfl⟩)
            obtain ⟨τm, m1, m2, m3, m4, m5', m6, m7⟩ := callable_lp (N := eN e) (σ := gt μ 5 b) (p := p) (q := p + n + 1) (n := n) (g := 0) b1 (by lia) (by lia) (fun k k0 k1 => by
              rw [gi]
              by_cases q : k = p
              · rw [q]; exact ⟨tv.2.2.1, by lia⟩
              · have := VV_tag (A5 (k - p - 1) (by lia) (by lia))
                have ek : p + 1 + (k - p - 1) = k := by lia
                rw [ek] at this
                exact ⟨this.2.2.1, by lia⟩) (by simp only [gt, sF_pi, sF_pl, sF_ai, sF_al, sG_pi, sG_pl, sG_ai, sG_al, sI_pi, sI_pl, sI_al, sI_ai1, sI_ai2, sJ_pi, sJ_pl, sJ_ai, sJ_al1, sJ_al2, Nat.reduceEqDiff, if_true, if_false, ne_eq, not_false_eq_true, ite_true, ite_false]; exact A4) (eN e) (p + n + 1) (by lia) (by lia) (big_d hN) (gt μ 5 b) mf_rfl (by simp only [gt, sF_pi, sF_pl, sF_ai, sF_al, sG_pi, sG_pl, sG_ai, sG_al, sI_pi, sI_pl, sI_al, sI_ai1, sI_ai2, sJ_pi, sJ_pl, sJ_ai, sJ_al1, sJ_al2, Nat.reduceEqDiff, if_true, if_false, ne_eq, not_false_eq_true, ite_true, ite_false]; exact A4) (fun k k0 k1 => by rw [if_neg (by lia), if_neg (by lia)]; exact ⟨rfl, rfl⟩)
            have fxx : m_fr aK σ τ := mf_tr fx1 l2
            have fmm : m_fr lkM μ τm := mf_tr frg (mf_mono m2 (fun k hk => by
              simp only [lkM, cM, List.contains_cons, List.contains_nil, Bool.or_eq_false_iff, beq_eq_false_iff_ne] at hk ⊢
              (repeat' (first | exact trivial | omega | apply And.intro))))
            refine ⟨n + 1, τ, τm, ?_, ?_, by lia, CL_ag H (aK_lt fxx) (lkM_ag fmm) (by rw [mf_F fxx (by decide)]; exact f406) (fun i i0 i1 => ?_), ⟨l3, by lia, by lia, by rw [m3]; lia, fun k k0 k1 => ?_⟩, m5', ?_, fxx, fmm⟩
            · simp (disch := lia) only [xx6_look, lt, gd_in, if_pos, if_neg, ↓reduceIte, gd_z0, gd_z1, gd_tt, sF_fold, sG_fold, sI_fold, sJ_fold, A1]
              rw [show md_pl (md_pi σ 408 tx) 409 vx = σ1 from rfl, h1]
              simp (disch := lia) only [bd, if_neg, if_pos, gd_in, sI_fold, sF_fold, x14, g399, lt]
              exact l1
            · simp (disch := lia) only [mm_callable, lt, gd_in, if_pos, if_neg, ↓reduceIte, gd_z0, gd_z1, gd_tt, sF_fold, sG_fold, sI_fold, sJ_fold, h2, bd, g42]
              have e143 : sF (gt μ 5 b) 143 = p + n + 1 := by simp only [gt, sF_pi, sF_pl, sF_ai, sF_al, sG_pi, sG_pl, sG_ai, sG_al, sI_pi, sI_pl, sI_al, sI_ai1, sI_ai2, sJ_pi, sJ_pl, sJ_ai, sJ_al1, sJ_al2, Nat.reduceEqDiff, if_true, if_false, ne_eq, not_false_eq_true, ite_true, ite_false]; exact A4
              rw [e143]
              exact m1
            · rw [← hp] at i1
              have := m7 i i0 i1
              rw [gi, gj] at this
              exact this
            · by_cases q : k = 0
              · subst q
                rw [l5, l6]
                have := m4 (p + 1 + 0) (by lia) (by lia)
                rw [this.1, this.2, gi, gj, show p + 1 + 0 - 1 = p by lia]
                exact v
              · have h4 := l4 k (by lia) (by lia)
                have := m4 (p + 1 + k) (by lia) (by lia)
                rw [this.1, this.2, gi, gj, h4.1, h4.2, g397, g398, show p + 1 + k - 1 = p + 1 + (k - 1) by lia]
                exact A5 (k - 1) (by lia) (by lia)
            · have e1 : sJ σ1 215 r = sJ σ 215 r := by simp only [σ1, sF_pi, sF_pl, sF_ai, sF_al, sG_pi, sG_pl, sG_ai, sG_al, sI_pi, sI_pl, sI_al, sI_ai1, sI_ai2, sJ_pi, sJ_pl, sJ_ai, sJ_al1, sJ_al2, Nat.reduceEqDiff, if_true, if_false, ne_eq, not_false_eq_true, ite_true, ite_false]
              rw [l7, m6]
              have e2 : sG (gt μ 5 b) 43 = b := by simp only [gt, sF_pi, sF_pl, sF_ai, sF_al, sG_pi, sG_pl, sG_ai, sG_al, sI_pi, sI_pl, sI_al, sI_ai1, sI_ai2, sJ_pi, sJ_pl, sJ_ai, sJ_al1, sJ_al2, Nat.reduceEqDiff, if_true, if_false, ne_eq, not_false_eq_true, ite_true, ite_false]
              rw [e2]
              exact r4
        · right
          have x14 : ¬ sI σ1 214 r = 6 := by simp only [σ1, sF_pi, sF_pl, sF_ai, sF_al, sG_pi, sG_pl, sG_ai, sG_al, sI_pi, sI_pl, sI_al, sI_ai1, sI_ai2, sJ_pi, sJ_pl, sJ_ai, sJ_al1, sJ_al2, Nat.reduceEqDiff, if_true, if_false, ne_eq, not_false_eq_true, ite_true, ite_false]; exact t6'
          have a5 : a ≠ 5 := fun z => x14 ((VV_tag r4).2.2.2.2.2.2.2.2.1.mpr z)
          have q1 : xx6_look (eN e) σ tx vx = xx6_look_b62 (eN e) tx σ1 := by
            simp (disch := lia) only [xx6_look, lt, gd_in, if_pos, if_neg, ↓reduceIte, gd_z0, gd_z1, gd_tt, sF_fold, sG_fold, sI_fold, sJ_fold, A1]
            rw [show md_pl (md_pi σ 408 tx) 409 vx = σ1 from rfl, h1]
            simp (disch := lia) only [bd, if_neg, gd_in, sI_fold, x14]
          have q2 : mm_callable (eN e) μ p n = bd (mm_faultOf (eN e) (gt μ a b) 9 (sI (gt μ a b) 141 p) 10) (fun z => some ((-1 : Int32), z)) := by
            simp (disch := lia) only [mm_callable, lt, gd_in, if_pos, if_neg, ↓reduceIte, gd_z0, gd_z1, gd_tt, sF_fold, sG_fold, sI_fold, sJ_fold, h2, bd, g42]
          rw [q1, q2]
          exact OF
  · right
    have q1 : xx6_look (eN e) σ tx vx = bx (xx6_fault (eN e) σ (3000 + 2)) (fun z => some (Except.error (z.1, z.2))) := by
      simp (disch := lia) only [xx6_look, lt, gd_in, if_pos, if_neg, ↓reduceIte, gd_z0, gd_z1, gd_tt, sF_fold, sG_fold, sI_fold, sJ_fold, A1]
    have q2 : mm_callable (eN e) μ p n = bd (mm_fault_2 (eN e) μ 8) (fun z => some ((-1 : Int32), z)) := by
      simp (disch := lia) only [mm_callable, lt, gd_in, if_pos, if_neg, ↓reduceIte, gd_z0, gd_z1, gd_tt, sF_fold, sG_fold, sI_fold, sJ_fold]
    rw [q1, q2]
    exact OE_bd (fault_OE E H (t := 2) (tm := 8) (by decide) (by decide) tx2 (by decide +kernel)) (fun z => rfl)
