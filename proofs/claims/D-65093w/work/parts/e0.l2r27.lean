/-! LAYER 2: step rules: LENGTH -/
theorem ob157 {N : Nat} {o : Option (Except (Nat × mS) mS)} : bx o (fun z => xx6_one_b157 N z) = o := bx_me (fun z => rfl)
/-- a handler is called with one value -/
theorem handle1_S {e : EV} {w : WD} {xf : Int32 → List Int32} {c d : Int32} {rest : PL2} {f : Int32} {fl : List Int32} {ρ : List Int32} {g p q F n : Int32} {σ μ : mS} {μ0 : mS} {M rk : Nat} {P h t1 md rg live th : Int32} {v1 : Int64} (C : CXT e M F n rk) (A : PT e w xf c d rest f fl ρ (-1) g p q F n σ μ0) (e411 : sF σ 411 = f) (zl : ρ.length ≤ 2000) (hP : P = mff μ0 (n - 1) 3 + Int32.ofNat ρ.length) (y : mtc (n - 1) P μ0 μ) (hq : mff μ (n - 1) 2 = q) (e8 : mff μ (n - 1) 8 = mff μ0 (n - 1) 8) (L : LE σ (mff μ0) f (n - 1)) (V : LVd σ f ρ live) (h0 : 0 ≤ h) (h1 : h < 20000) (hv : VV w (sI σ 214 h) (sJ σ 215 h) (sI μ 141 P) (sJ μ 142 P)) (w1 : VV w t1 v1 (sI μ 141 (P + 1)) (sJ μ 142 (P + 1))) (top : sF μ 143 = P + 2) (ct : ctS (eS e) (sI (eσ e) 261 g) g p q ρ md rg 1 1 th) : G2 e 1000 (M + 1) (gd (inB (σ.1 411) 202) (lt (md_ai σ 353 (Int32.toNatClampNeg (σ.1 411)) live) (fun σ11 : mS => lt (md_pi σ11 399 0) (fun σ12 : mS => bd (xx6_arg (eN e) σ12 t1 v1) (fun z13 => gd (inB h 20000) (gd (inB h 20000) (bx (xx6_begin (eN e) z13 (z13.2.2.1 214 (Int32.toNatClampNeg h)) (z13.2.2.2 215 (Int32.toNatClampNeg h)) md rg 1) (fun z14 => xx6_one_b157 (eN e) z14)))))))) (mm_call (eN e) μ P 1 1 th) := by
  have f01 := (PT_N A).1
  have b1 := (VV_t8 w1).1
  have g1 := arg_x (N := eN e) (σ := lvW σ f live) (k := 0) (v := v1) (by simp only [lvW, sF_pi, sF_pl, sF_ai, sF_al, sG_pi, sG_pl, sG_ai, sG_al, sI_pi, sI_pl, sI_al, sI_ai1, sI_ai2, sJ_pi, sJ_pl, sJ_ai, sJ_al1, sJ_al2, Nat.reduceEqDiff, if_true, if_false, ne_eq, not_false_eq_true, ite_true, ite_false]) (by decide) (by decide) b1.1 b1.2
  have fr : m_fr (fun k => [397, 398, 399].contains k) (lvW σ f live) (aW (lvW σ f live) 0 t1 v1) := aW_fr
  have x := lvW_tc (R := sI (eσ e) 261 g) f01.1 fr
  have AR2 : AR w (aW (lvW σ f live) 0 t1 v1) μ P 1 := by
    refine ⟨aW_399, by decide, by decide, by rw [top]; lia, fun k k0 k1 => ?_⟩
    have : k = 0 := by lia
    subst this
    rw [aW_I (by decide) (by decide), aW_J (by decide) (by decide), if_pos rfl, if_pos rfl, show P + 1 + 0 = P + 1 from by lia]
    exact w1
  have e214 : ∀ i : Int32, (aW (lvW σ f live) 0 t1 v1).2.2.1 214 i.toNatClampNeg = sI σ 214 i := fun i => (mf_I fr (k := 214) rfl).trans (mf_I lvW_fr rfl)
  have e215 : ∀ i : Int32, (aW (lvW σ f live) 0 t1 v1).2.2.2 215 i.toNatClampNeg = sJ σ 215 i := fun i => (mf_J fr (k := 215) rfl).trans (mf_J lvW_fr rfl)
  have BS := begin_S C A zl hP x y ((mf_I fr rfl).trans ((mf_I lvW_fr rfl).trans A.2.2.1)) hq (fun x _ _ => ⟨by simp only [xt]; rw [(mf_I fr (k := 347) rfl).trans (mf_I lvW_fr rfl)]; exact (mf_I fr rfl).trans (mf_I lvW_fr rfl), by simp only [xv]; rw [(mf_I fr (k := 347) rfl).trans (mf_I lvW_fr rfl)]; exact (mf_J fr rfl).trans (mf_J lvW_fr rfl)⟩) (LE_lv L fr e8) (LVd_V f01.1 V fr) AR2 hv ct
  rw [show σ.1 411 = f from e411, gd_in (by decide) f01.1 f01.2, lt, lt]
  rw [show md_pi (md_ai σ 353 f.toNatClampNeg live) 399 0 = lvW σ f live from rfl, g1, bd_so, gd_in (by decide) h0 h1, gd_in (by decide) h0 h1, e214, e215, ob157]
  exact BS
/-- the length of a text, on both sides -/
theorem sz_x {w : WD} {σ μ : mS} (S : RS w σ μ) {tx : Int32} {vx vm : Int64} (v : VV w tx vx 3 vm) : (0 ≤ vx.toInt32 ∧ vx.toInt32 < 44000) ∧ (0 ≤ vm.toInt32 ∧ vm.toInt32 < 42000) ∧ sI σ 129 vx.toInt32 = sI μ 3 vm.toInt32 := by
  have t4 : tx = 4 := (VV_t v).2.2.1.mpr rfl
  rw [t4] at v
  have st := VV_str v (.inl rfl)
  have gg := RS_gs S st
  have sz := (S.2.2.2.2.2.1 _ _ st).1
  exact ⟨⟨gg.1.1.1, gg.1.1.2.1⟩, ⟨gg.2.1.1, gg.2.1.2.1⟩, sz⟩
theorem r_len {e : EV} {w : WD} {xf : Int32 → List Int32} {c d : Int32} {rest : PL2} {f : Int32} {fl : List Int32} {ρ0 : List Int32} {x : Int32} {g p q F n : Int32} {σ μ : mS} {M rk : Nat} {r live : Int32} (C : CXT e M F n rk) (hk : rk ≤ 2000000) (A : PT e w xf c d rest f fl (ρ0 ++ [x]) (-1) g p q F n σ μ) (z : eZ e rk g p q (ρ0 ++ [x]) (-1)) (ho : opx e p 56) (ha : acm e q 26) (ln : lin e p q) (h1 : nx e (p + 1) = r) (h2 : nx e (p + 2) = x) (h3 : nx e (p + 3) = live) (x0 : 0 ≤ x) (ok : okr ρ0 r 1 (sI (eσ e) 261 g)) (V : lvS e g ρ0 live) (L : lo e rk g (p + 4) (q + 1) (ρ0 ++ [r]) (-1)) : Good e (M + 3000) σ μ := by
  obtain ⟨E, hM, Z, _, _, G, _, _⟩ := id C
  have hx := PT_x A ho (fun _ => rfl)
  have S := PT_s A 4
  have LL := PT_LE (k := 0) A ho ln 4
  have k70 := act_k A ha
  have hm := act_f A ha
  have one : ∀ μ : mS, mm_one (eN e) μ 26 = mm_size (eN e) μ (μ.1 143 - 1) := fun μ => by
    have e0 : mm_one (eN e) μ 26 = bd (mm_size (eN e) μ (μ.1 143 - 1)) (fun z8 => mm_one_182 (eN e) z8) := rfl
    rw [e0]; exact bd_me (fun z => rfl)
  rw [af_26, act_g A ha, mf_26, act_b, k70.1, gd_tt, k70.2, more_b, one] at hm
  have h256 := fun i => xP_256 S.1 i
  rw [sf_sg (by decide), sgo_x (by decide) ho.1 h256, h1, h2, h3, bx_me (fun z => rfl)] at hx
  generalize xP σ f p 4 = τ at hx S h256 LL
  generalize actP μ (n - 1) q = τm at hm S LL
  have zk0 := zk_of Z z
  have zk1 : zk e g ρ0 := zk_l zk0
  have xR := zk_reg zk0 mem_l x0
  obtain ⟨v, t2, t3, S2⟩ := top_S S zk0 x0
  have tv := VV_t v
  have t8 := (VV_t8 v).2
  have B2 : sF τm 143 - 1 ≤ 480000 := by
    have N := (PT_N S.1).2.2.1
    have h0 := oN_bd (n := ρ0.length) zk1.1
    rw [t3]
    exact Int32.le_trans (slf_2 N.1 N.2 h0.1 h0.2) (by decide)
  have H0 := S.1.1.1
  rw [xx6_one, (rd_r S x0 xR).1, bd_so, (rd_r S x0 xR).2, bd_so, if_pos rfl] at hx
  rw [show τm.1 143 = sF τm 143 from rfl] at hm
  generalize eP : sF τm 143 - 1 = P at v t2 t3 S2 B2 hm t8 tv
  have top0 : sF τm 143 = P + 1 := by rw [← eP]; lia
  have bb := bnd3 t2.1 B2
  have e141 : ∀ i : Int32, τm.2.2.1 141 i.toNatClampNeg = sI τm 141 i := fun i => rfl
  have e142 : ∀ i : Int32, τm.2.2.2 142 i.toNatClampNeg = sJ τm 142 i := fun i => rfl
  rw [mm_size, gd_in (by decide) bb.1.1 bb.1.2, e141] at hm
  by_cases c4 : xt τ f x = 4
  · have m3 := tv.2.2.1.mp c4
    rw [m3] at v
    obtain ⟨s1, s2, s3⟩ := sz_x H0.1.1.1.2.1 v
    have s3' : τ.2.2.1 129 (xv τ f x).toInt32.toNatClampNeg = sI τm 3 (sJ τm 142 P).toInt32 := s3
    obtain ⟨p1, p2, p3⟩ := push_1 (N := eN e) (N' := eN e) S2 zk1 ok (VV_n (w := w) (v := Int32.toInt64 (sI τm 3 (sJ τm 142 P).toInt32)))
    refine Good_2 A (hx.trans ?_) (hm.trans ?_) (GK_lo G p3.1 L)
    · rw [if_pos c4, gd_in (by decide) s1.1 s1.2, s3', p1, bd_so]
    · rw [if_pos m3, gd_in (by decide) bb.1.1 bb.1.2, e142, gd_in (by decide) s2.1 s2.2, lt, lt]
      exact (bd_me (fun z => rfl)).trans p2
  · rw [if_neg c4] at hx
    rw [if_neg (fun q => c4 (tv.2.2.1.mpr q)), gd_in (by decide) bb.1.1 bb.1.2, gd_in (by decide) bb.1.1 bb.1.2, e142] at hm
    obtain ⟨h, c', d', x1, m1, o⟩ := handler_2 (EV_N E) H0.1.1.1 H0.1.2.2.1 v (k := 4) (by decide)
    have x1' : xx6_handler (eN e) τ (xt τ f x) (xv τ f x) 4 = some (h, τ) := x1
    have m1' : mm_handler (eN e) τm (sI τm 141 P) (sJ τm 142 P) (τm.1 209) = some (gt τm c' d') := m1
    have S4 := ST_gt (c' := c') (d' := d') S2
    have g141 : ∀ i : Int32, (gt τm c' d').2.2.1 141 i.toNatClampNeg = sI τm 141 i := fun i => rfl
    have g142 : ∀ i : Int32, (gt τm c' d').2.2.2 142 i.toNatClampNeg = sJ τm 142 i := fun i => rfl
    have LL4 : LE τ (mff (gt τm c' d')) f (n - 1) := LE_fr (P := fun _ => false) LL mf_rfl gt_fr rfl rfl rfl
    rw [x1', bd_so] at hx
    rw [m1', bd_so, show (gt τm c' d').1 42 = c' from gt_42 (μ := τm) (c := c') (d := d')] at hm
    rcases o with ⟨rfl, rfl, rfl⟩ | ⟨h0, h1', n214, nc, hv⟩
    · rw [if_pos rfl] at hx
      rw [if_pos rfl, gd_in (by decide) bb.1.1 bb.1.2, g141] at hm
      by_cases c5 : xt τ f x = 5
      · have m4 := tv.2.2.2.1.mp c5
        rw [if_pos c5] at hx
        rw [if_pos m4, gd_in (by decide) bb.1.1 bb.1.2, g142] at hm
        rw [c5] at v
        have tb := VV_tb v
        obtain ⟨nn, υ, υm, l1, l2, l3, l4, R, fr, frm⟩ := length_h (EV_N E) (MR_pi S4.1).1.1.1.1 tb.1
        have bx : ∀ k, k < 194 ∨ 237 < k → hU k = false := fun k hk => by
          simp only [hU, List.contains_cons, List.contains_nil, Bool.or_eq_false_iff, beq_eq_false_iff_ne]
          (repeat' (first | exact trivial | omega | apply And.intro))
        have bm : ∀ k, k < 16 ∨ 57 < k → (fun k => [25, 42, 43].contains k) k = false := fun k hk => by
          simp only [List.contains_cons, List.contains_nil, Bool.or_eq_false_iff, beq_eq_false_iff_ne]
          (repeat' (first | exact trivial | omega | apply And.intro))
        have S5 := ST_hp (τm := md_pi υm 143 P) S4 (RH_fr R (mf_rfl (σ := υ)) (mf_pi mf_rfl rfl : m_fr (fun k => [143].contains k) υm (md_pi υm 143 P)) (fun k _ _ => rfl) (fun k _ _ _ _ _ _ _ _ => by simp only [List.contains_cons, List.contains_nil, Bool.or_eq_false_iff, beq_eq_false_iff_ne]; (repeat' (first | exact trivial | omega | apply And.intro)))) wle_rfl rfl rfl rfl ⟨fun i => mf_I fr rfl, fun i => mf_I fr rfl, fun a b _ => mf_I fr rfl⟩ fr (pi_cg frm) bx bm (fun k _ => by rw [(pi_cg (k := 143) (v := P) frm).2.2.1 44 rfl])
        obtain ⟨p1, p2, p3⟩ := push_1 (N := eN e) (N' := eN e) S5 zk1 ok (VV_n (w := w) (v := Int32.toInt64 nn))
        refine Good_2 A (hx.trans ?_) (hm.trans ?_) (GK_lo G p3.1 L)
        · rw [l1, bd_so, p1, bd_so]; rfl
        · rw [l2, bd_so, lt]
          exact (bd_me (fun z => rfl)).trans p2
      · rw [if_neg c5] at hx
        rw [if_neg (fun q => c5 (tv.2.2.2.1.mpr q)), gd_in (by decide) bb.1.1 bb.1.2] at hm
        exact good_UO C A hx hm (UO_bd (faultT_UO E (UK_pi S4.1 LL4) v (t := 18) (u := 31) (t' := 4) (u' := 10) (by decide) (by decide) tx_18 (by decide +kernel) (by decide) (by decide) tx_4 (by decide +kernel)) (fun z => rfl)) S.1.2.2.2.2.1 S4.1.2.2.2.2.2
    · have h1n : ¬ h = -1 := fun q => by rw [q] at h0; exact absurd h0 (by decide)
      have c8 := (VV_t8 hv).2
      have top1 : sF (gt τm c' d') 143 = P + 1 := top0
      have ps := push_mP (N := eN e) (μ := gt τm c' d') (t := sI τm 141 P) (v := sJ τm 142 P) top1 bb.2.1.1 bb.2.1.2 t8.1 t8.2
      have q0 : 0 ≤ sF (gt τm c' d') 143 := by rw [top1]; exact bb.2.1.1
      have nn := ch_1 t2.1 B2
      have frW : m_fr (fun k => [141, 142, 143, 153].contains k) (gt τm c' d') (mW (mPu (gt τm c' d') (sI τm 141 P) (sJ τm 142 P)) P c' d') := mf_tr mPu_fr (mf_mono mW_fr (fun k hk => by
        simp only [List.contains_cons, List.contains_nil, Bool.or_eq_false_iff, beq_eq_false_iff_ne] at hk ⊢
        (repeat' (first | exact trivial | omega | apply And.intro))))
      have y : mtc (n - 1) P (md_pi (gt τm c' d') 143 P) (mW (mPu (gt τm c' d') (sI τm 141 P) (sJ τm 142 P)) P c' d') := mtc_tr m143_bk (mtc_tr (mPu_y q0 (by rw [top1]; lia)) (mW_tc t2.1 (Int32.le_refl _)))
      have hP : P = mff (md_pi (gt τm c' d') 143 P) (n - 1) 3 + Int32.ofNat ρ0.length := by
        have T := S4.1.1.2
        rw [S4.1.2.2.2.2.2] at T
        exact (TP_1 T).2
      have hq : mff (mW (mPu (gt τm c' d') (sI τm 141 P) (sJ τm 142 P)) P c' d') (n - 1) 2 = q + 1 := by
        have := S4.1.2.2.2.1
        rw [S4.1.2.2.2.2.2] at this
        exact (mf_I frW rfl).trans this
      have e8 : mff (mW (mPu (gt τm c' d') (sI τm 141 P) (sJ τm 142 P)) P c' d') (n - 1) 8 = mff (gt τm c' d') (n - 1) 8 := mf_I (k := 152) frW rfl
      have r1 : sI (mW (mPu (gt τm c' d') (sI τm 141 P) (sJ τm 142 P)) P c' d') 141 P = c' ∧ sJ (mW (mPu (gt τm c' d') (sI τm 141 P) (sJ τm 142 P)) P c' d') 142 P = d' := by
        rw [mW_I t2.1 t2.1, mW_J t2.1 t2.1, if_pos rfl, if_pos rfl]; exact ⟨rfl, rfl⟩
      have r2 : sI (mW (mPu (gt τm c' d') (sI τm 141 P) (sJ τm 142 P)) P c' d') 141 (P + 1) = sI τm 141 P ∧ sJ (mW (mPu (gt τm c' d') (sI τm 141 P) (sJ τm 142 P)) P c' d') 142 (P + 1) = sJ τm 142 P := by
        rw [mW_I t2.1 bb.2.1.1, mW_J t2.1 bb.2.1.1, if_neg nn.2.2.2.1, if_neg nn.2.2.2.1, mPu_I q0 bb.2.1.1, mPu_J q0 bb.2.1.1, top1, if_pos rfl, if_pos rfl]; exact ⟨rfl, rfl⟩
      have top2 : sF (mW (mPu (gt τm c' d') (sI τm 141 P) (sJ τm 142 P)) P c' d') 143 = P + 2 := (mf_F mW_fr rfl).trans (by rw [mPu_143, top1]; lia)
      have ct : ctS (eS e) (sI (eσ e) 261 g) g (p + 4) (q + 1) ρ0 1 r 1 1 0 := .inr (.inr (.inl ⟨rfl, rfl, rfl, ok, lo_S hk L⟩))
      have G2 := handle1_S C S4.1 S4.2.2 zk1.1 hP y hq e8 LL4 (LV_S S4 V) h0 h1' (by rw [r1.1, r1.2]; exact hv) (t1 := xt τ f x) (v1 := xv τ f x) (by rw [r2.1, r2.2]; exact v) top2 ct
      rw [if_neg h1n] at hx
      have em : mm_act (eN e) μ = mm_call (eN e) (mW (mPu (gt τm c' d') (sI τm 141 P) (sJ τm 142 P)) P c' d') P 1 1 0 := by
        rw [hm, if_neg nc, gd_in (by decide) bb.1.1 bb.1.2, gd_in (by decide) bb.1.1 bb.1.2, g141, g142, ps, bd_so, gd_in (by decide) bb.1.1 bb.1.2, show (mPu (gt τm c' d') (sI τm 141 P) (sJ τm 142 P)).1 42 = c' from gt_42 (μ := τm) (c := c') (d := d'), nar_tag c8.1 c8.2, lt, gd_in (by decide) bb.1.1 bb.1.2, show (md_ai (mPu (gt τm c' d') (sI τm 141 P) (sJ τm 142 P)) 141 P.toNatClampNeg c').2.1 43 = d' from gt_43 (μ := τm) (c := c') (d := d'), lt]
        exact bd_me (fun z => rfl)
      exact good_G A hx em G2
