/-! LAYER 2: step rules: MINUS, BITS_NOT, LENGTH -/
theorem tx_18 : xtx 18 = mtx 31 := by decide +kernel
theorem r_one {e : EV} {w : WD} {xf : Int32 → List Int32} {c d : Int32} {rest : PL2} {f : Int32} {fl : List Int32} {ρ0 : List Int32} {x : Int32} {g p q F n : Int32} {σ μ : mS} {M rk : Nat} {r live op a : Int32} (hop : (op = 54 ∧ a = 24) ∨ (op = 55 ∧ a = 25)) (C : CXT e M F n rk) (hk : rk ≤ 2000000) (A : PT e w xf c d rest f fl (ρ0 ++ [x]) (-1) g p q F n σ μ) (z : eZ e rk g p q (ρ0 ++ [x]) (-1)) (ho : opx e p op) (ha : acm e q a) (ln : lin e p q) (h1 : nx e (p + 1) = r) (h2 : nx e (p + 2) = x) (h3 : nx e (p + 3) = live) (x0 : 0 ≤ x) (ok : okr ρ0 r 1 (sI (eσ e) 261 g)) (V : lvS e g ρ0 live) (L : lo e rk g (p + 4) (q + 1) (ρ0 ++ [r]) (-1)) : Good e (M + 3000) σ μ := by
  obtain ⟨E, hM, Z, _, _, G, _, _⟩ := id C
  have opd : 40 ≤ op ∧ ¬ op < 54 ∧ (op = 54 ∨ op = 55) ∧ (a = 24 ∨ a = 25) ∧ (∀ s', xx0_width (eN e) s' op = some (4, s')) := by
    rcases hop with ⟨rfl, rfl⟩ | ⟨rfl, rfl⟩
    · exact ⟨by decide, by decide, .inl rfl, .inl rfl, fun _ => rfl⟩
    · exact ⟨by decide, by decide, .inr rfl, .inr rfl, fun _ => rfl⟩
  have hx := PT_x A ho opd.2.2.2.2
  have S := PT_s A 4
  have LL := PT_LE (k := 0) A ho ln 4
  have k70 := act_k A ha
  have hm := act_f A ha
  have ea : mm_act (eN e) μ = mm_one (eN e) (actP μ (n - 1) q) a := by
    rw [hm]
    rcases opd.2.2.2.1 with h | h
    · subst h
      rw [af_24, act_g A ha, mf_24, act_b, k70.1, gd_tt, k70.2, more_b]
    · subst h
      rw [af_25, act_g A ha, mf_25, act_b, k70.1, gd_tt, k70.2, more_b]
  clear hm
  have h256 := fun i => xP_256 S.1 i
  rw [sf_sg opd.1, sgo_x opd.2.1 ho.1 h256, h1, h2, h3, bx_me (fun z => rfl)] at hx
  generalize xP σ f p 4 = τ at hx S h256 LL
  generalize actP μ (n - 1) q = τm at ea S LL
  have zk0 := zk_of Z z
  have zk1 : zk e g ρ0 := zk_l zk0
  have xR := zk_reg zk0 mem_l x0
  obtain ⟨v, t2, t3, S2⟩ := top_S S zk0 x0
  have tv := VV_t v
  have t8 := (VV_t8 v).2
  rw [one_x opd.2.2.1 (rd_r S x0 xR).1 (rd_r S x0 xR).2] at hx
  rw [one_m opd.2.2.2.1 t2.1 t2.2] at ea
  have B2 : sF τm 143 - 1 ≤ 480000 := by
    have N := (PT_N S.1).2.2.1
    have h0 := oN_bd (n := ρ0.length) zk1.1
    rw [t3]
    have := slf_2 N.1 N.2 h0.1 h0.2
    exact Int32.le_trans this (by decide)
  have e141 : ∀ i : Int32, τm.2.2.1 141 i.toNatClampNeg = sI τm 141 i := fun i => rfl
  have e142 : ∀ i : Int32, τm.2.2.2 142 i.toNatClampNeg = sJ τm 142 i := fun i => rfl
  rw [show τm.1 143 = sF τm 143 from rfl, e141, e142] at ea
  by_cases c3 : xt τ f x = 3
  · have m2 := tv.2.1.mp c3
    rw [if_pos c3] at hx
    rw [if_pos m2] at ea
    rw [c3, m2] at v
    have ev := VV_3 v
    have key : ∀ vv : Int64, xx6_step (eN e) σ = bd (xx6_set (eN e) τ r 3 vv) (fun z => some (.ok z)) → mm_act (eN e) μ = some (md_al τm 142 (sF τm 143 - 1).toNatClampNeg vv) → Good e (M + 3000) σ μ := fun vv hx hm => by
      obtain ⟨s1, S3⟩ := num_S (N := eN e) (v := vv) S zk0 ok m2
      exact Good_2 A (by rw [hx, s1, bd_so]) hm (GK_lo G S3.1 L)
    rcases hop with ⟨rfl, rfl⟩ | ⟨rfl, rfl⟩
    · rw [if_pos rfl] at hx ea
      rw [ev] at hx
      exact key _ hx ea
    · rw [if_neg (by decide)] at hx ea
      rw [ev] at hx
      exact key _ hx ea
  · rw [if_neg c3] at hx
    rw [if_neg (fun q => c3 (tv.2.1.mpr q))] at ea
    generalize eP : sF τm 143 - 1 = P at v t2 t3 S2 B2 ea t8 tv
    have top0 : sF τm 143 = P + 1 := by rw [← eP]; lia
    have bb := bnd3 t2.1 B2
    have q0 : 0 ≤ sF τm 143 := by rw [top0]; exact bb.2.1.1
    have ps := push_mP (N := eN e) (t := sI τm 141 P) (v := sJ τm 142 P) top0 bb.2.1.1 bb.2.1.2 t8.1 t8.2
    have top2 : sF (mPu τm (sI τm 141 P) (sJ τm 142 P)) 143 = P + 2 := by rw [mPu_143, top0]; lia
    have nn := ch_1 t2.1 B2
    have r1 : sI (mPu τm (sI τm 141 P) (sJ τm 142 P)) 141 P = sI τm 141 P ∧ sJ (mPu τm (sI τm 141 P) (sJ τm 142 P)) 142 P = sJ τm 142 P := by
      rw [mPu_I q0 bb.1.1, mPu_J q0 bb.1.1, top0, if_neg nn.1, if_neg nn.1]
      exact ⟨rfl, rfl⟩
    have r2 : sI (mPu τm (sI τm 141 P) (sJ τm 142 P)) 141 (P + 1) = sI τm 141 P ∧ sJ (mPu τm (sI τm 141 P) (sJ τm 142 P)) 142 (P + 1) = sJ τm 142 P := by
      rw [mPu_I q0 bb.2.1.1, mPu_J q0 bb.2.1.1, top0, if_pos rfl, if_pos rfl]
      exact ⟨rfl, rfl⟩
    have y2 : mtc (n - 1) P (md_pi τm 143 P) (mPu τm (sI τm 141 P) (sJ τm 142 P)) := mtc_tr m143_bk (mPu_y q0 (by rw [top0]; lia))
    have hq2 : mff (mPu τm (sI τm 141 P) (sJ τm 142 P)) (n - 1) 2 = q + 1 := by
      have := S2.1.2.2.2.1
      rw [S2.1.2.2.2.2.2] at this
      exact this
    have L2 : LE τ (mff (mPu τm (sI τm 141 P) (sJ τm 142 P))) f (n - 1) := LE_fr (P := fun _ => false) LL mf_rfl mPu_fr rfl rfl rfl
    have e206 : (mPu τm (sI τm 141 P) (sJ τm 142 P)).1 206 = sF (mPu τm (sI τm 141 P) (sJ τm 142 P)) (hnm.getD 8 0) := rfl
    have e207 : (mPu τm (sI τm 141 P) (sJ τm 142 P)).1 207 = sF (mPu τm (sI τm 141 P) (sJ τm 142 P)) (hnm.getD 9 0) := rfl
    rw [ps, bd_so, e206, e207] at ea
    generalize mPu τm (sI τm 141 P) (sJ τm 142 P) = μ3 at ea y2 hq2 top2 r1 r2 L2
    have S3 := ST_up (P := P) S2 zk1.1 (by simp only [sF_pi, sF_pl, sF_ai, sF_al, sG_pi, sG_pl, sG_ai, sG_al, sI_pi, sI_pl, sI_al, sI_ai1, sI_ai2, sJ_pi, sJ_pl, sJ_ai, sJ_al1, sJ_al2, Nat.reduceEqDiff, if_true, if_false, ne_eq, not_false_eq_true, ite_true, ite_false]) y2 hq2
    have H1 := (MR_pi S3.1).1
    have key : ∀ (k : Nat) (t tm : Nat), k < 21 → t < 141 → tm < 76 → xtx t = mtx tm → (mtx tm).length ≤ 100 → xx6_step (eN e) σ = bd (xx6_handler (eN e) τ (xt τ f x) (xv τ f x) (Int32.ofNat k)) (fun z2 => if z2.1 = -1 then xx6_one_b234 (eN e) (xt τ f x) (3000 + t) z2.2 else bx (xx6_handle (eN e) z2.2 z2.1 (xt τ f x) (xv τ f x) (xt τ f x) (xv τ f x) 1 r live) (fun z3 => some (.ok z3))) → mm_act (eN e) μ = bd (mm_callHandler (eN e) μ3 P (sF μ3 (hnm.getD k 0)) 0) (fun z2 => if z2.1 = 0 then mm_one_175 (eN e) (sI τm 141 P) tm z2.2 else mm_one_182 (eN e) z2.2) → Good e (M + 3000) σ μ := by
      intro k t tm hkk ht htm he hl hx hm
      obtain ⟨h, c', d', x1, m1, o⟩ := handler_2 (EV_N E) H1.1.1.1 H1.1.2.2.1 v hkk
      have f1 : μ3.2.2.1 141 P.toNatClampNeg = sI τm 141 P := r1.1
      have f2 : μ3.2.2.2 142 P.toNatClampNeg = sJ τm 142 P := r1.2
      rw [x1, bd_so] at hx
      rw [mm_callHandler, gd_in (by decide) bb.1.1 bb.1.2, gd_in (by decide) bb.1.1 bb.1.2, f1, f2, m1, bd_so, show (gt μ3 c' d').1 42 = c' from gt_42 (μ := μ3) (c := c') (d := d')] at hm
      rcases o with ⟨rfl, rfl, rfl⟩ | ⟨h0, h1', n214, nc, hv⟩
      · have S4 := ST_gt (c' := 0) (d' := 0) S3
        have H2 := (MR_pi S4.1).1
        obtain ⟨h, c', d', x2, m2, o⟩ := handler_2 (EV_N E) H2.1.1.1 H2.1.2.2.1 v hkk
        rw [nm_gt hkk, gt_2] at m2
        have hh : h = -1 := by
          have := x1.symm.trans x2
          simpa using (congrArg Prod.fst (Option.some.inj this)).symm
        rcases o with ⟨_, rfl, rfl⟩ | ⟨h0, _⟩
        · have g1 : (gt μ3 0 0).2.2.1 141 (P + 1).toNatClampNeg = sI τm 141 P := r2.1
          have g2 : (gt μ3 0 0).2.2.2 142 (P + 1).toNatClampNeg = sJ τm 142 P := r2.2
          rw [if_pos rfl] at hx
          rw [if_pos rfl, gd_in (by decide) bb.2.1.1 bb.2.1.2, gd_in (by decide) bb.2.1.1 bb.2.1.2, g1, g2, m2, bd_so, mm_callHandler_45, show (gt μ3 0 0).1 42 = 0 from gt_42 (μ := μ3) (c := 0) (d := 0), if_pos rfl, gd_z0, bd_so, if_pos rfl, mm_one_175] at hm
          rw [xx6_one_b234] at hx
          exact good_UO C A hx hm (UO_bd (faultT_UO E (UK_pi S4.1 (show LE τ (mff (gt μ3 0 0)) f (n - 1) from L2)) v (t := t) (u := tm) (t' := 4) (u' := 10) ht htm he hl (by decide) (by decide) tx_4 (by decide +kernel)) (fun z => rfl)) S.1.2.2.2.2.1 S4.1.2.2.2.2.2
        · rw [hh] at h0; exact absurd h0 (by decide)
      · have h1n : ¬ h = -1 := fun q => by rw [q] at h0; exact absurd h0 (by decide)
        have c8 := (VV_t8 hv).2
        obtain ⟨τ', k1, k2, y, fr3, ⟨s1, s2⟩, ⟨s3, s4⟩, ⟨s5, s6⟩⟩ := callH_45 (N := eN e) (k0 := n - 1) (th := 0) (μ := gt μ3 c' d') (t1 := sI τm 141 P) (v1 := sJ τm 142 P) (t2 := sI τm 141 P) (v2 := sJ τm 142 P) t2.1 B2 gt_42 gt_43 nc c8.1 c8.2 top2 r1.1 r1.2 r2.1 r2.2 t8 t8
        have S4 := ST_gt (c' := c') (d' := d') S3
        have hP : P = mff (md_pi (gt μ3 c' d') 143 P) (n - 1) 3 + Int32.ofNat ρ0.length := by
          have T := S4.1.1.2
          rw [S4.1.2.2.2.2.2] at T
          exact (TP_1 T).2
        have hq : mff τ' (n - 1) 2 = q + 1 := by
          have := S4.1.2.2.2.1
          rw [S4.1.2.2.2.2.2] at this
          exact (mf_I fr3 rfl).trans this
        have e8 : mff τ' (n - 1) 8 = mff (gt μ3 c' d') (n - 1) 8 := mf_I (k := 152) fr3 rfl
        have ct : ctS (eS e) (sI (eσ e) 261 g) g (p + 4) (q + 1) ρ0 1 r 1 1 0 := .inr (.inr (.inl ⟨rfl, rfl, rfl, ok, lo_S hk L⟩))
        have G2 := handle_S C S4.1 zk1.1 hP (mtc_tr m143_bk y) hq e8 L2 (LV_S S4 V) h0 h1' (by rw [s1, s2]; exact hv) (t1 := xt τ f x) (v1 := xv τ f x) (by rw [s3, s4]; exact v) (t2 := xt τ f x) (v2 := xv τ f x) (by rw [s5, s6]; exact v) k2 ct
        rw [if_neg h1n] at hx
        rw [if_neg nc, k1, kk_1 (fun z => by rw [if_neg n10]; rfl)] at hm
        exact good_G A (hx.trans (bx_me (fun z => rfl))) hm G2
    rw [xx6_one_b207] at hx
    rw [mm_one_152] at ea
    rcases hop with ⟨rfl, rfl⟩ | ⟨rfl, rfl⟩
    · rw [if_pos rfl] at hx ea
      refine key 8 16 21 (by decide) (by decide) (by decide) tx_16 (by decide +kernel) (hx.trans ?_) (ea.trans ?_)
      · exact bd_cg (fun z => by rw [if_pos rfl])
      · exact bd_cg (fun z => by rw [if_pos rfl])
    · rw [if_neg (by decide)] at hx ea
      refine key 9 15 20 (by decide) (by decide) (by decide) tx_15 (by decide +kernel) (hx.trans ?_) (ea.trans ?_)
      · exact bd_cg (fun z => by rw [if_neg (show ¬ (55 : Int32) = 54 from by decide)])
      · exact bd_cg (fun z => by rw [if_neg (show ¬ (25 : Int32) = 24 from by decide)])
