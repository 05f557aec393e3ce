/-! LAYER 2: step rules: a value is put under a key -/
theorem tx_14 : xtx 14 = mtx 18 := by decide +kernel
theorem PT_hK {e : EV} {w : WD} {xf : Int32 → List Int32} {c d : Int32} {rest : PL2} {f : Int32} {fl : List Int32} {ρ : List Int32} {m : Int32} {g p q F n : Int32} {σ μ : mS} {μ2 : mS} (A : PT e w xf c d rest f fl ρ m g p q F n σ μ) (fr : m_fr hK μ μ2) : PT e w xf c d rest f fl ρ m g p q F n σ μ2 := by
  have hq := A.2.2.2.1
  rw [A.2.2.2.2.2] at hq
  have T := A.1.2
  rw [A.2.2.2.2.2] at T
  refine PT_mk A xtc_rfl ⟨mf_mono fr (fun k hk => ?_), fun j hj i _ _ => ?_, fun i _ _ => ⟨mf_I fr rfl, mf_J fr rfl⟩⟩ A.2.2.1 ((mf_I fr rfl).trans hq) (TP_P (P := fun _ => false) T mf_rfl fr (fun k _ => rfl) (fun k hk => by rcases hk with rfl | rfl | rfl | rfl | rfl <;> rfl))
  · simp only [hK, nT, inR, List.contains_cons, List.contains_nil, Bool.or_eq_false_iff, beq_eq_false_iff_ne, Bool.and_eq_false_iff, decide_eq_false_iff_not] at hk ⊢
    (repeat' (first | exact trivial | omega | apply And.intro))
  · rcases hj with rfl | rfl | rfl <;> exact mf_I fr rfl
theorem ST_g {e : EV} {w : WD} {xf : Int32 → List Int32} {c d : Int32} {rest : PL2} {f : Int32} {fl : List Int32} {ρ : List Int32} {m : Int32} {g p q F n : Int32} {σ μ : mS} {c' : Int32} {d' : Int64} (S : ST e w xf c d rest f fl ρ m g p q F n σ μ) : ST e w xf c d rest f fl ρ m g p q F n σ (gt μ c' d') := ⟨PT_hK S.1 gt_fr, S.2⟩
theorem k_012 {k : Int32} (k0 : 0 ≤ k) (k1 : k < 3) : k = 0 ∨ k = 1 ∨ k = 2 := by lia
/-- a handler is called with three values, and gives nothing -/
theorem handle3_S {e : EV} {w : WD} {xf : Int32 → List Int32} {c d : Int32} {rest : PL2} {f : Int32} {fl : List Int32} {ρ : List Int32} {g p q F n : Int32} {σ μ : mS} {μ0 : mS} {M rk : Nat} {P h t1 t2 t3 live : Int32} {v1 v2 v3 : Int64} (C : CXT e M F n rk) (A : PT e w xf c d rest f fl ρ (-1) g p q F n σ μ0) (e411 : sF σ 411 = f) (zl : ρ.length ≤ 2000) (hP : P = mff μ0 (n - 1) 3 + Int32.ofNat ρ.length) (y : mtc (n - 1) P μ0 μ) (hq : mff μ (n - 1) 2 = q) (e8 : mff μ (n - 1) 8 = mff μ0 (n - 1) 8) (L : LE σ (mff μ0) f (n - 1)) (V : LVd σ f ρ live) (h0 : 0 ≤ h) (h1 : h < 20000) (h6 : sI σ 214 h = 6) (hv : VV w (sI σ 214 h) (sJ σ 215 h) (sI μ 141 P) (sJ μ 142 P)) (w1 : VV w t1 v1 (sI μ 141 (P + 1)) (sJ μ 142 (P + 1))) (w2 : VV w t2 v2 (sI μ 141 (P + 2)) (sJ μ 142 (P + 2))) (w3 : VV w t3 v3 (sI μ 141 (P + 3)) (sJ μ 142 (P + 3))) (top : sF μ 143 = P + 4) (ct : eS e g p q ρ (-1)) : G2 e 1000 (M + 1) (gd (inB (σ.1 411) 202) (lt (md_ai σ 353 (Int32.toNatClampNeg (σ.1 411)) live) (fun σ4 : mS => lt (md_pi σ4 399 0) (fun σ5 : mS => bd (xx6_arg (eN e) σ5 t1 v1) (fun z6 => bd (xx6_arg (eN e) z6 t2 v2) (fun z7 => bd (xx6_arg (eN e) z7 t3 v3) (fun z8 => gd (inB h 20000) (bx (xx6_begin (eN e) z8 6 (z8.2.2.2 215 (Int32.toNatClampNeg h)) 3 0 0) (fun z9 => some (Except.ok z9)))))))))) (mm_call (eN e) μ P 3 0 0) := by
  have f01 := (PT_N A).1
  have b1 := (VV_t8 w1).1
  have b2 := (VV_t8 w2).1
  have b3 := (VV_t8 w3).1
  have g1 := arg_x (N := eN e) (σ := lvW σ f live) (k := 0) (v := v1) (by simp only [lvW, sF_pi, sF_pl, sF_ai, sF_al, sG_pi, sG_pl, sG_ai, sG_al, sI_pi, sI_pl, sI_al, sI_ai1, sI_ai2, sJ_pi, sJ_pl, sJ_ai, sJ_al1, sJ_al2, Nat.reduceEqDiff, if_true, if_false, ne_eq, not_false_eq_true, ite_true, ite_false]) (by decide) (by decide) b1.1 b1.2
  have g2 := arg_x (N := eN e) (σ := aW (lvW σ f live) 0 t1 v1) (k := 1) (v := v2) aW_399 (by decide) (by decide) b2.1 b2.2
  have g3 := arg_x (N := eN e) (σ := aW (aW (lvW σ f live) 0 t1 v1) 1 t2 v2) (k := 2) (v := v3) aW_399 (by decide) (by decide) b3.1 b3.2
  have fr : m_fr (fun k => [397, 398, 399].contains k) (lvW σ f live) (aW (aW (aW (lvW σ f live) 0 t1 v1) 1 t2 v2) 2 t3 v3) := mf_tr (mf_tr aW_fr aW_fr) aW_fr
  have x := lvW_tc (R := sI (eσ e) 261 g) f01.1 fr
  have AR2 : AR w (aW (aW (aW (lvW σ f live) 0 t1 v1) 1 t2 v2) 2 t3 v3) μ P 3 := by
    refine ⟨aW_399, by decide, by decide, by rw [top]; lia, fun k k0 k1 => ?_⟩
    rcases k_012 k0 k1 with rfl | rfl | rfl
    · rw [aW_I (by decide) (by decide), aW_J (by decide) (by decide), if_neg (by decide), if_neg (by decide), aW_I (by decide) (by decide), aW_J (by decide) (by decide), if_neg (by decide), if_neg (by decide), aW_I (by decide) (by decide), aW_J (by decide) (by decide), if_pos rfl, if_pos rfl, show P + 1 + 0 = P + 1 from by lia]
      exact w1
    · rw [aW_I (by decide) (by decide), aW_J (by decide) (by decide), if_neg (by decide), if_neg (by decide), aW_I (by decide) (by decide), aW_J (by decide) (by decide), if_pos rfl, if_pos rfl, show P + 1 + 1 = P + 2 from by lia]
      exact w2
    · rw [aW_I (by decide) (by decide), aW_J (by decide) (by decide), if_pos rfl, if_pos rfl, show P + 1 + 2 = P + 3 from by lia]
      exact w3
  have e215 : ∀ i : Int32, (aW (aW (aW (lvW σ f live) 0 t1 v1) 1 t2 v2) 2 t3 v3).2.2.2 215 i.toNatClampNeg = sJ σ 215 i := fun i => (mf_J fr (k := 215) rfl).trans (mf_J lvW_fr rfl)
  have BS := begin_S C A zl hP x y ((mf_I fr rfl).trans ((mf_I lvW_fr rfl).trans A.2.2.1)) hq (fun x _ _ => ⟨by simp only [xt]; rw [(mf_I fr (k := 347) rfl).trans (mf_I lvW_fr rfl)]; exact (mf_I fr rfl).trans (mf_I lvW_fr rfl), by simp only [xv]; rw [(mf_I fr (k := 347) rfl).trans (mf_I lvW_fr rfl)]; exact (mf_J fr rfl).trans (mf_J lvW_fr rfl)⟩) (LE_lv L fr e8) (LVd_V f01.1 V fr) AR2 hv (md := 3) (rg := 0) (wt := 0) (wn := 0) (th := 0) (.inr (.inr (.inr (.inl ⟨rfl, rfl, rfl, ct⟩))))
  rw [h6] at BS
  rw [show σ.1 411 = f from e411, gd_in (by decide) f01.1 f01.2, lt, lt]
  rw [show md_pi (md_ai σ 353 f.toNatClampNeg live) 399 0 = lvW σ f live from rfl, g1, bd_so, g2, bd_so, g3, bd_so, gd_in (by decide) h0 h1, e215, bx_me (fun z => rfl)]
  exact BS
theorem push4 {N : Nat} {μ : mS} {k0 P t1 t2 t3 t4 : Int32} {v1 v2 v3 v4 : Int64} (h : sF μ 143 = P) (P0 : 0 ≤ P) (P1 : P ≤ 480000) (a1 : 0 ≤ t1 ∧ t1 ≤ 8) (a2 : 0 ≤ t2 ∧ t2 ≤ 8) (a3 : 0 ≤ t3 ∧ t3 ≤ 8) (a4 : 0 ≤ t4 ∧ t4 ≤ 8) : ∃ τ, (∀ {α : Type} (k : mS → Option α), bd (mm_push N μ t1 v1) (fun z5 => bd (mm_push N z5 t2 v2) (fun z6 => bd (mm_push N z6 t3 v3) (fun z7 => bd (mm_push N z7 t4 v4) k))) = k τ) ∧ sF τ 143 = P + 4 ∧ mtc k0 P μ τ ∧ m_fr (fun k => [141, 142, 143, 153].contains k) μ τ ∧ (sI τ 141 P = t1 ∧ sJ τ 142 P = v1) ∧ (sI τ 141 (P + 1) = t2 ∧ sJ τ 142 (P + 1) = v2) ∧ (sI τ 141 (P + 2) = t3 ∧ sJ τ 142 (P + 2) = v3) ∧ (sI τ 141 (P + 3) = t4 ∧ sJ τ 142 (P + 3) = v4) := by
  obtain ⟨τ, k3, top, y, fr, ⟨b1, b2⟩, ⟨b3, b4⟩, ⟨b5, b6⟩⟩ := push3 (N := N) (k0 := k0) (v1 := v1) (v2 := v2) (v3 := v3) h P0 P1 a1 a2 a3
  have bb := bnd3 P0 P1
  have p4 := push_mP (N := N) (μ := τ) (t := t4) (v := v4) top bb.2.2.2.1.1 bb.2.2.2.1.2 a4.1 a4.2
  have g0 : 0 ≤ sF τ 143 := by rw [top]; exact bb.2.2.2.1.1
  have n1 : ¬ P = P + 3 := by lia
  have n2 : ¬ P + 1 = P + 3 := by lia
  have n3 : ¬ P + 2 = P + 3 := by lia
  refine ⟨mPu τ t4 v4, fun k => by rw [k3, p4, bd_so], by rw [mPu_143, top]; lia, mtc_tr y (mPu_y g0 (by rw [top]; lia)), mf_tr fr mPu_fr, ?_, ?_, ?_, ?_⟩
  · rw [mPu_I g0 bb.1.1, mPu_J g0 bb.1.1, top, if_neg n1, if_neg n1]; exact ⟨b1, b2⟩
  · rw [mPu_I g0 bb.2.1.1, mPu_J g0 bb.2.1.1, top, if_neg n2, if_neg n2]; exact ⟨b3, b4⟩
  · rw [mPu_I g0 bb.2.2.1.1, mPu_J g0 bb.2.2.1.1, top, if_neg n3, if_neg n3]; exact ⟨b5, b6⟩
  · rw [mPu_I g0 bb.2.2.2.1.1, mPu_J g0 bb.2.2.2.1.1, top, if_pos rfl, if_pos rfl]; exact ⟨rfl, rfl⟩
theorem h_1 : Int32.ofNat 1 = 1 := rfl
theorem store_2 {e : EV} {w : WD} {xf : Int32 → List Int32} {c d : Int32} {rest : PL2} {f : Int32} {fl : List Int32} {ρ : List Int32} {g p q F n : Int32} {σ μ : mS} {M rk : Nat} {P kt kt' tt tt' live : Int32} {kv kv' tv tv' : Int64} (C : CXT e M F n rk) (zk' : zk e g ρ) (k : VV w kt kv kt' kv') (y : VV w tt tv tt' tv') (ct : eS e g p q ρ (-1)) (V : LVd σ f ρ live) (P0 : 0 ≤ P) (P1 : P ≤ 480000) (j : Nat) (i : Int32) (i0 : 0 ≤ i) (i1 : i ≤ 100) (hj : (100 - i.toInt).toNat < j) : ∀ (t t' : Int32) (v v' : Int64) (μ : mS), VV w t v t' v' → ST e w xf c d rest f fl ρ (-1) g p q F n σ μ → sF μ 143 = P → LE σ (mff μ) f (n - 1) → (∃ σ' μ', xx6_putIn_b9 (eN e) j kt kv tt tv live t v i σ = some (.ok σ') ∧ mm_store_2_9 (eN e) j kt' kv' tt' tv' t' v' i μ = some μ' ∧ ST e w xf c d rest f fl ρ (-1) g p q F n σ' μ') ∨ G2 e 1000 (M + 1) (xx6_putIn_b9 (eN e) j kt kv tt tv live t v i σ) (mm_store_2_9 (eN e) j kt' kv' tt' tv' t' v' i μ) := by
  obtain ⟨E, hM, Z, EK, LB, G, HGs, GR⟩ := id C
  have kt0 := VV_t k
  induction j generalizing i with
  | zero => omega
  | succ j ih =>
    intro t t' v v' μ vv S hP L
    have hF : sF σ 396 = F := S.1.2.2.2.2.1
    have hn : ∀ μ0, sF μ0 154 = n → sF μ0 154 - 1 ≤ n - 1 := fun μ0 h => by rw [h]; exact Int32.le_refl _
    have tt0 := VV_t vv
    by_cases c100 : 100 ≤ i
    · refine .inr ?_
      rw [xx6_putIn_b9, mm_store_2_9, if_pos c100, if_pos c100]
      exact UO_G2 E (GR 200).2 (UO_bd (fault_UO E (PT_UK S.1 L) (t := 14) (tm := 18) (by decide) (by decide) tx_14 (by decide +kernel)) (fun z => rfl)) hF (hn _ S.1.2.2.2.2.2)
    · obtain ⟨i2, i3, i4, i5⟩ := ix_n i0 c100
      -- it is put into the table
      have hput : ∀ μ, ST e w xf c d rest f fl ρ (-1) g p q F n σ μ → LE σ (mff μ) f (n - 1) → t = 5 → (∃ σ' μ', (if kt = 0 then bx (xx6_fault (eN e) σ (3000 + 9)) (fun z11 => some (Except.error (z11.1, z11.2))) else bx (xx3_put (eN e) σ (Int64.toInt32 v) kt kv tt tv) (fun z10 => some (Except.ok z10))) = some (.ok σ') ∧ mm_store_2_85 (eN e) (mm_store_2_9 (eN e) j) kt' kv' tt' tv' v' μ = some μ' ∧ ST e w xf c d rest f fl ρ (-1) g p q F n σ' μ') ∨ G2 e 1000 (M + 1) (if kt = 0 then bx (xx6_fault (eN e) σ (3000 + 9)) (fun z11 => some (Except.error (z11.1, z11.2))) else bx (xx3_put (eN e) σ (Int64.toInt32 v) kt kv tt tv) (fun z10 => some (Except.ok z10))) (mm_store_2_85 (eN e) (mm_store_2_9 (eN e) j) kt' kv' tt' tv' v' μ) := by
        intro μ S L c5
        rw [mm_store_2_85]
        by_cases k0 : kt = 0
        · rw [if_pos k0, if_pos (kt0.1.mp k0)]
          exact .inr (UO_G2 E (GR 200).2 (UO_bd (fault_UO E (PT_UK S.1 L) (t := 9) (tm := 17) (by decide) (by decide) tx_9 (by decide +kernel)) (fun z => rfl)) hF (hn _ S.1.2.2.2.2.2))
        · rw [if_neg k0, if_neg (fun q => k0 (kt0.1.mpr q))]
          rw [c5] at vv
          have tb := VV_tb vv
          obtain ⟨υ, υm, S3, LL3, fr, frm, ⟨o1, o2⟩ | ⟨o1, o2⟩⟩ := put_S E S L tb.1 k k0 y
          · exact .inl ⟨υ, υm, by rw [o1]; rfl, by rw [o2]; rfl, S3⟩
          · refine .inr (UO_G2 E (GR 200).2 (room_UO (σ := υ) (μ := υm) (w := w) (PT_UK S3.1 LL3) (h := fun z => z) (by rw [o1]; rfl) (fun μ' hb => ⟨μ', ?_, mf_rfl⟩)) S3.1.2.2.2.2.1 (hn _ S3.1.2.2.2.2.2))
            rw [o2, bd_bd, hb, bd_so, bd_so]; rfl
      -- the handler
      have hd : ∀ μ, ST e w xf c d rest f fl ρ (-1) g p q F n σ μ → sF μ 143 = P → LE σ (mff μ) f (n - 1) → (∃ σ' μ', xx6_putIn_b48 (eN e) (xx6_putIn_b9 (eN e) j) kt kv tt tv live t v i σ = some (.ok σ') ∧ mm_store_2_50 (eN e) (mm_store_2_9 (eN e) j) kt' kv' tt' tv' t' v' i 0 μ = some μ' ∧ ST e w xf c d rest f fl ρ (-1) g p q F n σ' μ') ∨ G2 e 1000 (M + 1) (xx6_putIn_b48 (eN e) (xx6_putIn_b9 (eN e) j) kt kv tt tv live t v i σ) (mm_store_2_50 (eN e) (mm_store_2_9 (eN e) j) kt' kv' tt' tv' t' v' i 0 μ) := by
        intro μ S hP L
        have H0 := S.1.1.1
        obtain ⟨h, c', d', x1, m1, o⟩ := handler_2 (EV_N E) H0.1.1.1 H0.1.2.2.1 vv (k := 1) (by decide)
        rw [h_1] at x1
        have m1' : mm_handler (eN e) μ t' v' (μ.1 194) = some (gt μ c' d') := m1
        have S2 := ST_g (c' := c') (d' := d') S
        have L2 : LE σ (mff (gt μ c' d')) f (n - 1) := L
        have g42 : (gt μ c' d').1 42 = c' := gt_42
        have g43 : (gt μ c' d').2.1 43 = d' := gt_43
        have hP2 : sF (gt μ c' d') 143 = P := hP
        rw [xx6_putIn_b48, mm_store_2_50, if_pos rfl, x1, m1', bd_so, bd_so, xx6_putIn_b59, mm_store_2_67, if_pos rfl, g42]
        rcases o with ⟨rfl, rfl, rfl⟩ | ⟨h0, h1, n214, nc, hv⟩
        · rw [if_pos rfl, if_pos rfl]
          by_cases c5 : t = 5
          · rw [if_pos c5, if_pos (tt0.2.2.2.1.mp c5)]
            exact hput _ S2 L2 c5
          · refine .inr ?_
            rw [if_neg c5, if_neg (fun q => c5 (tt0.2.2.2.1.mpr q)), mm_store_2_117, g42, if_pos rfl]
            exact UO_G2 E (GR 200).2 (UO_bd (faultT_UO E (PT_UK S2.1 L2) vv (t := 12) (u := 15) (t' := 4) (u' := 10) (by decide) (by decide) tx_12 (by decide +kernel) (by decide) (by decide) tx_4 (by decide +kernel)) (fun z => rfl)) hF (hn _ S2.1.2.2.2.2.2)
        · have h1' : ¬ h = -1 := fun q => by rw [q] at h0; exact absurd h0 (by decide)
          have e214 : σ.2.2.1 214 h.toNatClampNeg = sI σ 214 h := rfl
          have e215 : σ.2.2.2 215 h.toNatClampNeg = sJ σ 215 h := rfl
          have hvt := VV_t hv
          rw [if_neg h1', if_neg nc, ite_self, mm_store_2_117, g42, if_neg nc, gd_in (by decide) h0 h1, e214]
          by_cases c6 : sI σ 214 h = 6
          · refine .inr ?_
            have c5 := hvt.2.2.2.2.1.mp c6
            have tk := (VV_t8 vv).2
            have kk := (VV_t8 k).2
            have yy := (VV_t8 y).2
            obtain ⟨τm, k4, top, yy2, fr3, ⟨a1, a2⟩, ⟨a3, a4⟩, ⟨a5, a6⟩, ⟨a7, a8⟩⟩ := push4 (N := eN e) (μ := gt μ c' d') (k0 := n - 1) (P := P) (t1 := 5) (v1 := d') (t2 := t') (v2 := v') (t3 := kt') (v3 := kv') (t4 := tt') (v4 := tv') hP2 P0 P1 ⟨by decide, by decide⟩ tk kk yy
            have hPP : P = mff (gt μ c' d') (n - 1) 3 + Int32.ofNat ρ.length := by
              have T := S2.1.1.2
              rw [S2.1.2.2.2.2.2] at T
              exact hP2.symm.trans (TP_1 T).2
            have hq : mff τm (n - 1) 2 = q := by
              have := S2.1.2.2.2.1
              rw [S2.1.2.2.2.2.2] at this
              exact (mf_I fr3 rfl).trans this
            have HS := handle3_S C S2.1 S2.2.2 zk'.1 hPP yy2 hq (mf_I fr3 rfl) L2 V h0 h1 c6 (by rw [a1, a2, ← c5]; exact hv) (t1 := t) (v1 := v) (by rw [a3, a4]; exact vv) (t2 := kt) (v2 := kv) (by rw [a5, a6]; exact k) (t3 := tt) (v3 := tv) (by rw [a7, a8]; exact y) top ct
            have e4 : (lt P fun x4 : Int32 => bd (mm_push (eN e) (gt μ c' d') 5 d') (fun z5 => bd (mm_push (eN e) z5 t' v') (fun z6 => bd (mm_push (eN e) z6 kt' kv') (fun z7 => bd (mm_push (eN e) z7 tt' tv') (fun z8 => bd (mm_call (eN e) z8 x4 3 0 0) (fun z9 => some z9)))))) = mm_call (eN e) τm P 3 0 0 := by rw [lt, k4, bd_me (fun z => rfl)]
            rw [if_pos c6, if_pos c5, show (gt μ c' d').2.1 43 = d' from g43, show (gt μ c' d').1 143 = P from hP2, e4]
            exact HS
          · rw [if_neg c6, if_neg (fun q => c6 (hvt.2.2.2.2.1.mpr q)), gd_in (by decide) h0 h1, lt, gd_in (by decide) h0 h1, e215, lt, lt, lt, g43, lt, lt]
            exact ih (i + 1) i2 i3 (by omega) _ _ _ _ _ hv S2 hP2 L2
      have H0 := S.1.1.1
      rw [xx6_putIn_b9, mm_store_2_9, if_neg c100, if_neg c100]
      by_cases c5 : t = 5
      · rw [if_pos c5, if_pos (tt0.2.2.2.1.mp c5)]
        by_cases k0 : kt = 0
        · rw [if_pos k0, kt0.1.mp k0, get_m0, bd_so, show (gt μ 0 0).1 42 = 0 from gt_42 (μ := μ) (c := 0) (d := 0), if_pos rfl, mm_store_2_48]
          have := hd (gt μ 0 0) (ST_g S) hP L
          rw [kt0.1.mp k0] at this
          exact this
        · have vv5 := vv
          rw [c5] at vv5
          have tb := VV_tb vv5
          obtain ⟨h, c', d', x1, m1, o⟩ := live_h (EV_N E) H0.1.1.1 tb.1 k k0 (VV_8 k)
          rw [if_neg k0, x1, bd_so, m1, bd_so, show (gt μ c' d').1 42 = c' from gt_42 (μ := μ) (c := c') (d := d')]
          rcases o with ⟨rfl, rfl, rfl⟩ | ⟨h0, h1, n214, nc, hv⟩
          · rw [if_pos rfl, if_pos rfl, mm_store_2_48]
            exact hd (gt μ 0 0) (ST_g S) hP L
          · have h1' : ¬ h = -1 := fun q => by rw [q] at h0; exact absurd h0 (by decide)
            rw [if_neg h1', if_neg nc, mm_store_2_48, mm_store_2_50, if_neg (by decide), mm_store_2_67, if_neg (by decide), xx6_putIn_b59, if_pos rfl, if_pos c5]
            exact hput (gt μ c' d') (ST_g S) L c5
      · rw [if_neg c5, if_neg (fun q => c5 (tt0.2.2.2.1.mpr q))]
        exact hd μ S hP L
