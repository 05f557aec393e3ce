/-! LAYER 2: step rules: what is under a key -/
theorem tx_12 : xtx 12 = mtx 15 := by decide +kernel
theorem tx_13 : xtx 13 = mtx 16 := by decide +kernel
theorem mf_sy {P : Nat → Bool} {σ τ : mS} (h : m_fr P σ τ) : m_fr P τ σ := ⟨fun k hk => (h.1 k hk).symm, fun k hk => (h.2.1 k hk).symm, fun k hk => (h.2.2.1 k hk).symm, fun k hk => (h.2.2.2 k hk).symm⟩
theorem m143_bk {μ : mS} {k0 B t : Int32} : mtc k0 B (md_pi μ 143 t) μ := by
  have fr : m_fr (fun k => [143].contains k) (md_pi μ 143 t) μ := mf_sy (mf_pi mf_rfl rfl)
  exact ⟨mf_mono fr (fun k hk => by simp only [nT, inR, List.contains_cons, List.contains_nil, Bool.or_eq_false_iff, beq_eq_false_iff_ne, Bool.and_eq_false_iff, decide_eq_false_iff_not] at hk ⊢; (repeat' (first | exact trivial | omega | apply And.intro))), fun j hj i _ _ => by rcases hj with rfl | rfl | rfl <;> exact mf_I fr rfl, fun i _ _ => ⟨mf_I fr rfl, mf_J fr rfl⟩⟩
theorem pi_cg {P : Nat → Bool} {μ τ : mS} (fr : m_fr P μ τ) {k : Nat} {v : Int32} : m_fr P (md_pi μ k v) (md_pi τ k v) := by
  refine ⟨fun j hj => ?_, fr.2.1, fr.2.2.1, fr.2.2.2⟩
  show upd τ.1 k v j = upd μ.1 k v j
  simp only [upd]
  rw [fr.1 j hj]
/-- the top call, wherever the pile's top is -/
theorem MR_pi {e : EV} {w : WD} {xf : Int32 → List Int32} {c d : Int32} {rest : PL2} {f : Int32} {fl : List Int32} {ρ : List Int32} {m : Int32} {g p q F n : Int32} {σ μ : mS} {P : Int32} (A : PT e w xf c d rest f fl ρ m g p q F n σ (md_pi μ 143 P)) : MR0 e w xf c d rest f fl σ μ ∧ sF μ 154 = n := by
  have e5 : sF μ 154 = n := A.2.2.2.2.2
  refine ⟨MR0_tc A.1.1 xtc_rfl m143_bk, e5⟩
theorem UK_pi {e : EV} {w : WD} {xf : Int32 → List Int32} {c d : Int32} {rest : PL2} {f : Int32} {fl : List Int32} {ρ : List Int32} {m : Int32} {g p q F n : Int32} {σ μ : mS} {P : Int32} (A : PT e w xf c d rest f fl ρ m g p q F n σ (md_pi μ 143 P)) (L : LE σ (mff μ) f (n - 1)) : UK e w xf c d rest σ μ := by
  obtain ⟨⟨H1, V, hf, hk, hB, FCx, FLx⟩, a5⟩ := MR_pi A
  rw [← a5] at L
  refine ⟨H1, V, ?_, ?_⟩
  · rw [hf]
    exact ⟨hk, FCx.1, .inl ⟨FCx.2.1, FCx.2.2.1, FL_UN FLx⟩⟩
  · rw [hf]
    exact ⟨hk, FCx.1, .inr ⟨FCx.2.1, FCx.2.2.1, L⟩, FL_LK FLx⟩
/-- what a lookup got does not count -/
theorem PT_gt {e : EV} {w : WD} {xf : Int32 → List Int32} {c d : Int32} {rest : PL2} {f : Int32} {fl : List Int32} {ρ : List Int32} {m : Int32} {g p q F n : Int32} {σ μ : mS} {P c' : Int32} {d' : Int64} (A : PT e w xf c d rest f fl ρ m g p q F n σ (md_pi μ 143 P)) : PT e w xf c d rest f fl ρ m g p q F n σ (md_pi (gt μ c' d') 143 P) := by
  have fr : m_fr hK (md_pi μ 143 P) (md_pi (gt μ c' d') 143 P) := pi_cg gt_fr
  have hq := A.2.2.2.1
  rw [A.2.2.2.2.2] at hq
  have T := A.1.2
  rw [A.2.2.2.2.2] at T
  refine PT_mk A xtc_rfl ⟨mf_mono fr (fun k hk => ?_), fun j hj i _ _ => ?_, fun i _ _ => ⟨mf_I fr rfl, mf_J fr rfl⟩⟩ A.2.2.1 ((mf_I fr rfl).trans hq) (TP_P (P := fun _ => false) T mf_rfl fr (fun k _ => rfl) (fun k hk => by rcases hk with rfl | rfl | rfl | rfl | rfl <;> rfl))
  · simp only [hK, nT, inR, List.contains_cons, List.contains_nil, Bool.or_eq_false_iff, beq_eq_false_iff_ne, Bool.and_eq_false_iff, decide_eq_false_iff_not] at hk ⊢
    (repeat' (first | exact trivial | omega | apply And.intro))
  · rcases hj with rfl | rfl | rfl <;> exact mf_I fr rfl
theorem ST_gt {e : EV} {w : WD} {xf : Int32 → List Int32} {c d : Int32} {rest : PL2} {f : Int32} {fl : List Int32} {ρ : List Int32} {m : Int32} {g p q F n : Int32} {σ μ : mS} {P c' : Int32} {d' : Int64} (S : ST e w xf c d rest f fl ρ m g p q F n σ (md_pi μ 143 P)) : ST e w xf c d rest f fl ρ m g p q F n σ (md_pi (gt μ c' d') 143 P) := ⟨PT_gt S.1, S.2⟩
theorem ix_n {i : Int32} (i0 : 0 ≤ i) (i1 : ¬ 100 ≤ i) : 0 ≤ i + 1 ∧ i + 1 ≤ 100 ∧ (i + 1).toInt = i.toInt + 1 ∧ i.toInt < 100 := by
  have h : i < 100 := Int32.not_le.mp i1
  rw [tI_le] at i0
  rw [tI_lt] at h
  have z0 : (0 : Int32).toInt = 0 := rfl
  have z1 : (1 : Int32).toInt = 1 := rfl
  have z2 : (100 : Int32).toInt = 100 := rfl
  have e : (i + 1).toInt = i.toInt + 1 := by rw [tI_add] <;> omega
  exact ⟨by rw [tI_le]; omega, by rw [tI_le]; omega, e, by omega⟩
theorem h_0 : Int32.ofNat 0 = 0 := rfl
theorem index_2 {e : EV} {w : WD} {xf : Int32 → List Int32} {c d : Int32} {rest : PL2} {f : Int32} {fl : List Int32} {ρ : List Int32} {g p q F n : Int32} {σ μ : mS} {M rk : Nat} {P kt kt' r live : Int32} {kv kv' : Int64} (C : CXT e M F n rk) (zk' : zk e g ρ) (k : VV w kt kv kt' kv') (ok : okr ρ r 1 (sI (eσ e) 261 g)) (ct : ctS (eS e) (sI (eσ e) 261 g) g p q ρ 1 r 1 1 0) (V : LVd σ f ρ live) (P0 : 0 ≤ P) (P1 : P ≤ 480000) (j : Nat) (i : Int32) (i0 : 0 ≤ i) (i1 : i ≤ 100) (hj : (100 - i.toInt).toNat < j) : ∀ (t t' : Int32) (v v' : Int64) (μ : mS), VV w t v t' v' → ST e w xf c d rest f fl ρ (-1) g p q F n σ (md_pi μ 143 P) → LE σ (mff μ) f (n - 1) → (∃ tx vx tm vm μ', VV w tx vx tm vm ∧ xx6_index_b9 (eN e) j kt kv r live t v i σ = some (.ok (xS σ (sI σ 347 f + r) tx vx)) ∧ mm_index_37 (eN e) j P t' v' kt' kv' i μ = some (mPu (md_pi μ' 143 P) tm vm) ∧ ST e w xf c d rest f fl ρ (-1) g p q F n σ (md_pi μ' 143 P)) ∨ G2 e 1000 (M + 1) (xx6_index_b9 (eN e) j kt kv r live t v i σ) (mm_index_37 (eN e) j P t' v' kt' kv' i μ) := by
  obtain ⟨E, hM, Z, EK, LB, G, HGs, GR⟩ := id C
  induction j generalizing i with
  | zero => omega
  | succ j ih =>
    intro t t' v v' μ vv S L
    have hn : ∀ μ0, MR0 e w xf c d rest f fl σ μ0 ∧ sF μ0 154 = n → sF μ0 154 - 1 ≤ n - 1 := fun μ0 h => by rw [h.2]; exact Int32.le_refl _
    have hF : sF σ 396 = F := S.1.2.2.2.2.1
    have tt := VV_t vv
    by_cases c100 : 100 ≤ i
    · refine .inr ?_
      rw [xx6_index_b9, mm_index_37, if_pos c100, if_pos c100]
      exact UO_G2 E (GR 200).2 (UO_bd (fault_UO E (UK_pi S.1 L) (t := 13) (tm := 16) (by decide) (by decide) tx_13 (by decide +kernel)) (fun z => rfl)) hF (hn _ (MR_pi S.1))
    · obtain ⟨i2, i3, i4, i5⟩ := ix_n i0 c100
      -- the handler
      have hd : ∀ μ, ST e w xf c d rest f fl ρ (-1) g p q F n σ (md_pi μ 143 P) → LE σ (mff μ) f (n - 1) → (∃ tx vx tm vm μ', VV w tx vx tm vm ∧ xx6_index_b76 (eN e) (xx6_index_b9 (eN e) j) kt kv r live t v i σ = some (.ok (xS σ (sI σ 347 f + r) tx vx)) ∧ mm_index_84 (eN e) (mm_index_37 (eN e) j) P t' v' kt' kv' i μ = some (mPu (md_pi μ' 143 P) tm vm) ∧ ST e w xf c d rest f fl ρ (-1) g p q F n σ (md_pi μ' 143 P)) ∨ G2 e 1000 (M + 1) (xx6_index_b76 (eN e) (xx6_index_b9 (eN e) j) kt kv r live t v i σ) (mm_index_84 (eN e) (mm_index_37 (eN e) j) P t' v' kt' kv' i μ) := by
        intro μ S L
        have H0 := (MR_pi S.1).1
        obtain ⟨h, c', d', x1, m1, o⟩ := handler_2 (EV_N E) H0.1.1.1 H0.1.2.2.1 vv (k := 0) (by decide)
        rw [h_0] at x1
        have m1' : mm_handler (eN e) μ t' v' (μ.1 193) = some (gt μ c' d') := m1
        have S2 := ST_gt (c' := c') (d' := d') S
        have L2 : LE σ (mff (gt μ c' d')) f (n - 1) := L
        have g42 : (gt μ c' d').1 42 = c' := gt_42
        have g43 : (gt μ c' d').2.1 43 = d' := gt_43
        rw [xx6_index_b76, mm_index_84, x1, m1', bd_so, bd_so, g42]
        rcases o with ⟨rfl, rfl, rfl⟩ | ⟨h0, h1, n214, nc, hv⟩
        · rw [if_pos rfl, if_pos rfl]
          by_cases c5 : t = 5
          · refine .inl ⟨0, 0, 0, 0, gt μ 0 0, VV_nil, ?_, ?_, S2⟩
            · rw [if_pos c5, (set_1 (N := eN e) (t := 0) (v := 0) S2 zk' ok (by decide) (by decide)).1, bd_so]
            · rw [if_pos (tt.2.2.2.1.mp c5), lt, push_mP (P := P) (by simp only [sF_pi, sF_pl, sF_ai, sF_al, sG_pi, sG_pl, sG_ai, sG_al, sI_pi, sI_pl, sI_al, sI_ai1, sI_ai2, sJ_pi, sJ_pl, sJ_ai, sJ_al1, sJ_al2, Nat.reduceEqDiff, if_true, if_false, ne_eq, not_false_eq_true, ite_true, ite_false]) P0 (by lia) (by decide) (by decide), bd_so]
          · refine .inr ?_
            rw [if_neg c5, if_neg (fun q => c5 (tt.2.2.2.1.mpr q)), mm_index_118, g42, if_pos rfl]
            exact UO_G2 E (GR 200).2 (UO_bd (faultT_UO E (UK_pi S2.1 L2) vv (t := 12) (u := 15) (t' := 4) (u' := 10) (by decide) (by decide) tx_12 (by decide +kernel) (by decide) (by decide) tx_4 (by decide +kernel)) (fun z => rfl)) hF (hn _ (MR_pi S2.1))
        · have h1' : ¬ h = -1 := fun q => by rw [q] at h0; exact absurd h0 (by decide)
          have e214 : σ.2.2.1 214 h.toNatClampNeg = sI σ 214 h := rfl
          have e215 : σ.2.2.2 215 h.toNatClampNeg = sJ σ 215 h := rfl
          have hvt := VV_t hv
          rw [if_neg h1', if_neg nc, mm_index_118, g42, if_neg nc, gd_in (by decide) h0 h1, e214]
          by_cases c6 : sI σ 214 h = 6
          · refine .inr ?_
            have c5 := hvt.2.2.2.2.1.mp c6
            have tk := (VV_t8 vv).2
            have kk := (VV_t8 k).2
            obtain ⟨τm, k3, top, y, fr3, ⟨a1, a2⟩, ⟨a3, a4⟩, ⟨a5, a6⟩⟩ := push3 (N := eN e) (μ := md_pi (gt μ c' d') 143 P) (k0 := n - 1) (P := P) (t1 := 5) (v1 := d') (t2 := t') (v2 := v') (t3 := kt') (v3 := kv') (by simp only [sF_pi, sF_pl, sF_ai, sF_al, sG_pi, sG_pl, sG_ai, sG_al, sI_pi, sI_pl, sI_al, sI_ai1, sI_ai2, sJ_pi, sJ_pl, sJ_ai, sJ_al1, sJ_al2, Nat.reduceEqDiff, if_true, if_false, ne_eq, not_false_eq_true, ite_true, ite_false]) P0 P1 ⟨by decide, by decide⟩ tk kk
            have hP : P = mff (md_pi (gt μ c' d') 143 P) (n - 1) 3 + Int32.ofNat ρ.length := by
              have T := S2.1.1.2
              rw [S2.1.2.2.2.2.2] at T
              exact ((TP_1 T).2).symm.trans (by simp only [sF_pi, sF_pl, sF_ai, sF_al, sG_pi, sG_pl, sG_ai, sG_al, sI_pi, sI_pl, sI_al, sI_ai1, sI_ai2, sJ_pi, sJ_pl, sJ_ai, sJ_al1, sJ_al2, Nat.reduceEqDiff, if_true, if_false, ne_eq, not_false_eq_true, ite_true, ite_false]) |>.symm
            have hq : mff τm (n - 1) 2 = q := by
              have := S2.1.2.2.2.1
              rw [S2.1.2.2.2.2.2] at this
              exact (mf_I fr3 rfl).trans this
            have HS := handle_S C S2.1 zk'.1 hP y hq (mf_I fr3 rfl) L2 V h0 h1 (by rw [a1, a2, ← c5]; exact hv) (t1 := t) (v1 := v) (by rw [a3, a4]; exact vv) (t2 := kt) (v2 := kv) (by rw [a5, a6]; exact k) top ct
            rw [if_pos c6, bx_me (fun z => rfl), if_pos c5, lt, show (md_pi (gt μ c' d') 143 P).2.1 43 = d' from gt_43 (μ := μ) (c := c') (d := d'), k3, bd_me (fun z => rfl)]
            exact HS
          · rw [if_neg c6, if_neg (fun q => c6 (hvt.2.2.2.2.1.mpr q)), gd_in (by decide) h0 h1, lt, gd_in (by decide) h0 h1, e215, lt, lt, lt, g43, lt, lt]
            exact ih (i + 1) i2 i3 (by omega) _ _ _ _ _ hv S2 L2
      have H0 := (MR_pi S.1).1
      rw [xx6_index_b9, mm_index_37, if_neg c100, if_neg c100]
      by_cases c5 : t = 5
      · rw [if_pos c5, if_pos (tt.2.2.2.1.mp c5)]
        have kt0 := VV_t k
        by_cases k0 : kt = 0
        · rw [if_pos k0, kt0.1.mp k0, get_m0, bd_so, show (gt μ 0 0).1 42 = 0 from gt_42, if_pos rfl]
          have := hd (gt μ 0 0) (ST_gt S) L
          rw [kt0.1.mp k0] at this
          exact this
        · rw [c5] at vv
          have tb := VV_tb vv
          obtain ⟨h, c', d', x1, m1, o⟩ := live_h (EV_N E) H0.1.1.1 tb.1 k k0 (VV_8 k)
          rw [if_neg k0, x1, bd_so, m1, bd_so, show (gt μ c' d').1 42 = c' from gt_42 (μ := μ) (c := c') (d := d')]
          rcases o with ⟨rfl, rfl, rfl⟩ | ⟨h0, h1, n214, nc, hv⟩
          · rw [if_pos rfl, if_pos rfl]
            exact hd (gt μ 0 0) (ST_gt S) L
          · have h1' : ¬ h = -1 := fun q => by rw [q] at h0; exact absurd h0 (by decide)
            have t8 := VV_t8 hv
            have S3 := ST_gt (c' := c') (d' := d') S
            have q1 := (set_1 (N := eN e) (t := sI σ 214 h) (v := sJ σ 215 h) S3 zk' ok t8.1.1 t8.1.2).1
            refine .inl ⟨sI σ 214 h, sJ σ 215 h, c', d', gt μ c' d', hv, ?_, ?_, S3⟩
            · rw [if_neg h1', gd_in (by decide) h0 h1, gd_in (by decide) h0 h1]
              rw [show σ.2.2.1 214 h.toNatClampNeg = sI σ 214 h from rfl, show σ.2.2.2 215 h.toNatClampNeg = sJ σ 215 h from rfl, q1, bd_so]
            · rw [if_neg nc, lt, show (md_pi (gt μ c' d') 143 P).1 42 = c' from gt_42 (μ := μ) (c := c') (d := d'), show (md_pi (gt μ c' d') 143 P).2.1 43 = d' from gt_43 (μ := μ) (c := c') (d := d'), push_mP (P := P) (by simp only [sF_pi, sF_pl, sF_ai, sF_al, sG_pi, sG_pl, sG_ai, sG_al, sI_pi, sI_pl, sI_al, sI_ai1, sI_ai2, sJ_pi, sJ_pl, sJ_ai, sJ_al1, sJ_al2, Nat.reduceEqDiff, if_true, if_false, ne_eq, not_false_eq_true, ite_true, ite_false]) P0 (by lia) t8.2.1 t8.2.2, bd_so]
      · rw [if_neg c5, if_neg (fun q => c5 (tt.2.2.2.1.mpr q))]
        exact hd μ S L
