/-! LAYER 2: step rules: TICK; others -/
theorem ME_fu {S : SR} {K : Int32 → Int32 → Int32 → Prop} {q : Int} {w : WD} {xf : Int32 → List Int32} {c d : Int32} {rest : PL2} {σ μ : mS} {F : Int32} (H : ME S K q w xf c d rest σ μ) (h : 0 ≤ F) : ME S K q w xf c d rest (md_pi σ 396 F) (md_pi μ 180 F) := by
  have fr : m_fr (fun k => k == 396) σ (md_pi σ 396 F) := mf_pi mf_rfl rfl
  have frm : m_fr (fun k => k == 180) μ (md_pi μ 180 F) := mf_pi mf_rfl rfl
  have hp : ∀ k, kX k → (k == 396) = false := fun k hk => by simp only [kX] at hk; simp only [beq_eq_false_iff_ne]; omega
  have hq : ∀ k, kM k → (k == 180) = false := fun k hk => by simp only [kM] at hk; simp only [beq_eq_false_iff_ne]; omega
  have p' : ∀ k, k ≠ 396 → (k == 396) = false := fun k hk => by simpa using hk
  have q' : ∀ k, k ≠ 180 → (k == 180) = false := fun k hk => by simpa using hk
  have hc : cds w σ (md_pi σ 396 F) := cds_fr fr rfl rfl rfl
  obtain ⟨⟨RR, h1⟩, Z, HH, h4, h5, h6, h7, h8, h9, h10, h10', h11⟩ := H
  refine ⟨⟨by rw [fQ_e (mf_F frm rfl) (mf_I frm rfl)]; exact RH_fr RR fr frm (fun k a b => p' k (by omega)) (fun k a b _ _ _ _ _ _ => q' k (by omega)), h1⟩, ZS_fr Z fr rfl, HO_fr HH wle_rfl fr frm (fun k hk => p' k (by omega)) (fun k a b => q' k (by omega)) (fun a b _ => xL_fr fr (fun k a b => p' k (by omega))) (fun k _ => by rw [frm.2.2.1 44 rfl]), XF_fr h4 rfl fr hp, CO_fr h5 wle_rfl rfl hc fr frm hp hq, BC_fr wle_rfl hc fr frm hp hq h6, h7, h8, ?_, ?_, ?_, ?_⟩
  · have ks : kSum w (md_pi μ 180 F) = kSum w μ := by
      simp only [kSum]
      congr 1
    rw [mf_F fr rfl, mf_F frm rfl, mf_F frm rfl, ks]; exact h9
  · simp only [sF_pi, sF_pl, sF_ai, sF_al, sG_pi, sG_pl, sG_ai, sG_al, sI_pi, sI_pl, sI_al, sI_ai1, sI_ai2, sJ_pi, sJ_pl, sJ_ai, sJ_al1, sJ_al2, Nat.reduceEqDiff, if_true, if_false, ne_eq, not_false_eq_true, ite_true, ite_false]
  · simp only [sF_pi, sF_pl, sF_ai, sF_al, sG_pi, sG_pl, sG_ai, sG_al, sI_pi, sI_pl, sI_al, sI_ai1, sI_ai2, sJ_pi, sJ_pl, sJ_ai, sJ_al1, sJ_al2, Nat.reduceEqDiff, if_true, if_false, ne_eq, not_false_eq_true, ite_true, ite_false]; exact h
  · exact (mf_F frm rfl).trans h11
theorem MR_fu {e : EV} {w : WD} {xf : Int32 → List Int32} {c d : Int32} {rest : PL2} {f : Int32} {fl : List Int32} {ρ : List Int32} {m : Int32} {g p q F n : Int32} {σ μ : mS} {F' : Int32} (A : PT e w xf c d rest f fl ρ m g p q F n σ μ) (h : 0 ≤ F') : MR e w xf c d rest f fl ρ m (md_pi σ 396 F') (md_pi μ 180 F') := by
  have fr : m_fr (fun k => k == 396) σ (md_pi σ 396 F') := mf_pi mf_rfl rfl
  have frm : m_fr (fun k => k == 180) μ (md_pi μ 180 F') := mf_pi mf_rfl rfl
  have hp : ∀ k, kX k → (k == 396) = false := fun k hk => by simp only [kX] at hk; simp only [beq_eq_false_iff_ne]; omega
  have hq : ∀ k, kM k → (k == 180) = false := fun k hk => by simp only [kM] at hk; simp only [beq_eq_false_iff_ne]; omega
  have p' : ∀ k, k ≠ 396 → (k == 396) = false := fun k hk => by simpa using hk
  have q' : ∀ k, k ≠ 180 → (k == 180) = false := fun k hk => by simpa using hk
  have H := A.1.1
  have V' : SV e w (md_pi σ 396 F') (md_pi μ 180 F') := SV_fr H.2.1 wle_rfl fr frm (fun k hk => p' k (fun q => by subst q; rcases hk with z | z; exact absurd z (by decide); omega)) (fun k hk => q' k (fun q => by subst q; rcases hk with z | z; exact absurd z (by decide); omega))
  exact ⟨MR0_fr H (ME_fu H.1 h) V' wle_rfl (cds_fr fr rfl rfl rfl) fr frm hp hq, TP_fr A.1.2 wle_rfl fr frm hp hq⟩
theorem fu_2 {F : Int32} (h0 : 0 ≤ F) (h : F ≠ 0) : 0 ≤ F - 1 ∧ F - 1 < F := ⟨by lia, by lia⟩
/-- TICK -/
theorem r_tick {e : EV} {w : WD} {xf : Int32 → List Int32} {c d : Int32} {rest : PL2} {f : Int32} {fl : List Int32} {ρ : List Int32} {m : Int32} {g p q F n : Int32} {σ μ : mS} {M rk : Nat} {a : Int32} (haa : a = 35 ∨ a = 36) (C : CXT e M F n rk) (A : PT e w xf c d rest f fl ρ m g p q F n σ μ) (ho : opx e p 0) (ha : acm e q a) (ln : lin e p q) (L : eS e g (p + 1) (q + 1) ρ m) : Good e (M + 3000) σ μ := by
  obtain ⟨E, hM, Z, EK, LB, G, HGs, GR⟩ := id C
  have hx := PT_x A ho (fun s => rfl)
  have S := PT_s A 1
  have LL := PT_LE (k := 0) A ho ln 1
  have hm : mm_act (eN e) μ = bd (mm_takeFuel (eN e) (actP μ (n - 1) q)) (fun z => some z.2) := by
    rw [act_f A ha]
    rcases haa with rfl | rfl
    · rw [af_35, act_g A ha, mf_35, act_b]; rfl
    · rw [af_36, act_g A ha, mf_36, act_b]; rfl
  rw [sf_0, rare_s] at hx
  generalize xP σ f p 1 = τ at hx S LL
  generalize actP μ (n - 1) q = τm at hm S LL
  have H1 := S.1.1.1.1
  have f1 := H1.2.2.2.2.2.2.2.2.2.1
  have f2 := H1.2.2.2.2.2.2.2.2.2.2.1
  have eF : sF τ 396 = F := S.1.2.2.2.2.1
  by_cases z : sF τ 396 = 0
  · rw [fuel_x0 z] at hx
    rw [fuel_m0 (by rw [← f1]; exact z)] at hm
    refine good_UO (w' := w) (τ := τ) (τm := τm) C A hx hm (.inr ⟨w, τ, τm, 1116, 2, .inr ⟨rfl, rfl⟩, rfl, fun μ' hb => ⟨μ', ?_, mf_rfl⟩, PT_UK S.1 LL⟩) eF S.1.2.2.2.2.2
    rw [hb]; rfl
  · rw [fuel_x1 z] at hx
    rw [fuel_m1 (by rw [← f1]; exact z), bd_so] at hm
    have ff := fu_2 f2 z
    have R := MR_fu S.1 ff.1
    obtain ⟨rk', r1, zz⟩ := L
    have e180 : sF τm 180 = sF τ 396 := f1.symm
    have R' : MR e w xf c d rest f fl ρ m (md_pi τ 396 (sF τ 396 - 1)) (md_pi τm 180 (sF τm 180 - 1)) := by rw [e180]; exact R
    refine Good_2 A hx hm ?_
    refine HGs (F - 1) (by rw [← eF]; exact ff.1) (by rw [← eF]; exact ff.2) w xf c d rest f fl ρ m rk' _ _ R' r1 ?_ (by simp only [sF_pi, sF_pl, sF_ai, sF_al, sG_pi, sG_pl, sG_ai, sG_al, sI_pi, sI_pl, sI_al, sI_ai1, sI_ai2, sJ_pi, sJ_pl, sJ_ai, sJ_al1, sJ_al2, Nat.reduceEqDiff, if_true, if_false, ne_eq, not_false_eq_true, ite_true, ite_false]; rw [eF]) ?_
    · have a1 := S.1.2.1
      have a2 := S.1.2.2.1
      have a3 := S.1.2.2.2.1
      rw [S.1.2.2.2.2.2] at a3
      rw [show sI (md_pi τ 396 (sF τ 396 - 1)) 344 f = sI τ 344 f from rfl, show sI (md_pi τ 396 (sF τ 396 - 1)) 346 f = sI τ 346 f from rfl, show sF (md_pi τm 180 (sF τm 180 - 1)) 154 = sF τm 154 from rfl, S.1.2.2.2.2.2, a1, a2, show mff (md_pi τm 180 (sF τm 180 - 1)) (n - 1) 2 = mff τm (n - 1) 2 from rfl, a3]
      exact zz
    · rw [show sF (md_pi τm 180 (sF τm 180 - 1)) 154 = sF τm 154 from rfl, S.1.2.2.2.2.2]
      exact (PT_N A).2.2.2.2
