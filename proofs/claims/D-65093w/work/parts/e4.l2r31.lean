/-! LAYER 2: step rules: the values behind the named ones -/
theorem x354_tc {σ : mS} {f R t : Int32} (f0 : 0 ≤ f) : xtc f R σ (md_ai σ 354 f.toNatClampNeg t) := by
  have fr : m_fr (fun k => [354].contains k) σ (md_ai σ 354 f.toNatClampNeg t) := mf_ai mf_rfl rfl
  refine ⟨mf_ai mf_rfl rfl, fun k hk g g0 gf => ?_, fun i _ _ => ⟨mf_I fr rfl, mf_J fr rfl⟩⟩
  rcases hk with rfl | rfl | rfl | rfl
  · exact mf_I fr rfl
  · exact mf_I fr rfl
  · exact mf_I fr rfl
  · rw [sI_aj f0 g0, if_neg gf]
theorem m153_tc {μ : mS} {k B t : Int32} (k0 : 0 ≤ k) : mtc k B μ (md_ai μ 153 k.toNatClampNeg t) := by
  have fr : m_fr (fun k => [153].contains k) μ (md_ai μ 153 k.toNatClampNeg t) := mf_ai mf_rfl rfl
  refine ⟨mf_ai mf_rfl rfl, fun j hj i i0 ik => ?_, fun i _ _ => ⟨mf_I fr rfl, mf_J fr rfl⟩⟩
  have ne : ¬ i = k := fun q => by rw [q] at ik; exact Int32.lt_irrefl ik
  rcases hj with rfl | rfl | rfl
  · exact mf_I fr rfl
  · exact mf_I fr rfl
  · rw [sI_aj k0 i0, if_neg ne]
theorem oth_RG {w : WD} {σ : mS} {f B t : Int32} {pt : Int32 → Int32} {pv : Int32 → Int64} {l : List Int32} (h : RG w σ f pt pv B l) : RG w (md_ai σ 354 f.toNatClampNeg t) f pt pv B l := RG_cg h wle_rfl (fun x _ _ => ⟨rfl, rfl⟩) (fun j _ => ⟨rfl, rfl⟩)
/-- how many there are is written -/
theorem oth_PT {e : EV} {w : WD} {xf : Int32 → List Int32} {c d : Int32} {rest : PL2} {f : Int32} {fl : List Int32} {ρ : List Int32} {g p q F n : Int32} {σ μ : mS} {r cnt : Int32} (S : ST e w xf c d rest f fl (ρ ++ rng r cnt) (-1) g p q F n σ μ) : PT e w xf c d rest f fl (ρ ++ rng r cnt) (-1) g p q F n (md_ai σ 354 f.toNatClampNeg (r + cnt)) (md_ai μ 153 (n - 1).toNatClampNeg cnt) := by
  have f01 := (PT_N S.1).1
  have k01 := (PT_N S.1).2.1
  have T := S.1.1.2
  have hq := S.1.2.2.2.1
  rw [S.1.2.2.2.2.2] at T hq
  obtain ⟨T1, T2⟩ := TP_1 T
  have fx : m_fr (fun k => [354].contains k) σ (md_ai σ 354 f.toNatClampNeg (r + cnt)) := mf_ai mf_rfl rfl
  have fm : m_fr (fun k => [153].contains k) μ (md_ai μ 153 (n - 1).toNatClampNeg cnt) := mf_ai mf_rfl rfl
  exact PT_mk S.1 (x354_tc f01.1) (m153_tc k01.1) ((mf_I fx rfl).trans S.1.2.2.1) ((mf_I fm rfl).trans hq) (.inl ⟨rfl, oth_RG T1, T2⟩)
theorem oth_PTm {e : EV} {w : WD} {xf : Int32 → List Int32} {c d : Int32} {rest : PL2} {f : Int32} {fl : List Int32} {ρ : List Int32} {g p q F n : Int32} {σ μ : mS} {r cnt : Int32} (S : ST e w xf c d rest f fl (ρ ++ rng r cnt) (-1) g p q F n σ μ) (r0 : 0 ≤ r) (c0 : 0 ≤ cnt) (c1 : cnt ≤ 100) : PT e w xf c d rest f fl ρ r g p q F n (md_ai σ 354 f.toNatClampNeg (r + cnt)) (md_ai μ 153 (n - 1).toNatClampNeg cnt) := by
  have f01 := (PT_N S.1).1
  have k01 := (PT_N S.1).2.1
  have T := S.1.1.2
  have hq := S.1.2.2.2.1
  rw [S.1.2.2.2.2.2] at T hq
  obtain ⟨T1, T2⟩ := TP_1 T
  obtain ⟨T3, T4⟩ := RG_app.mp T1
  have fx : m_fr (fun k => [354].contains k) σ (md_ai σ 354 f.toNatClampNeg (r + cnt)) := mf_ai mf_rfl rfl
  have fm : m_fr (fun k => [153].contains k) μ (md_ai μ 153 (n - 1).toNatClampNeg cnt) := mf_ai mf_rfl rfl
  refine PT_mk S.1 (x354_tc f01.1) (m153_tc k01.1) ((mf_I fx rfl).trans S.1.2.2.1) ((mf_I fm rfl).trans hq) (.inr (.inr ⟨r0, cnt, c0, c1, oth_RG T3, oth_RG T4, ?_, ?_, ?_⟩))
  · show sF μ 143 = mff μ (n - 1) 3 + Int32.ofNat ρ.length + cnt
    rw [T2, List.length_append, rng_len, ← oN_add, oN_cl' c0]
    lia
  · rw [sI_aj f01.1 f01.1, if_pos rfl]
  · show sI (md_ai μ 153 (n - 1).toNatClampNeg cnt) 153 (n - 1) = cnt
    rw [sI_aj k01.1 k01.1, if_pos rfl]
theorem cl_b {cnt : Int32} (c0 : 0 ≤ cnt) (c1 : cnt ≤ 2500) : cnt.toInt ≤ 2500 ∧ 0 ≤ cnt.toInt ∧ cnt.toNatClampNeg = cnt.toInt.toNat := ⟨tI_le.mp c1, tI_le.mp c0, tI_cl cnt⟩
/-- OTHERS, PUT_REST: so many -/
theorem r_others {e : EV} {w : WD} {xf : Int32 → List Int32} {c d : Int32} {rest : PL2} {f : Int32} {fl : List Int32} {ρ : List Int32} {g p q F n : Int32} {σ μ : mS} (Z : ZRok e) (BN : 1000000 ≤ eN e) {M rk : Nat} (G : GK e M F n rk) (A : PT e w xf c d rest f fl ρ (-1) g p q F n σ μ) (z : eZ e rk g p q ρ (-1)) (ho : opx e p 27) (ha : acm e q 4) (hw : sI (eμ e) 71 q = nx e (p + 2)) (ok : okr ρ (nx e (p + 1)) (nx e (p + 2)) (sI (eσ e) 261 g)) (L : lo e rk g (p + 3) (q + 1) (ρ ++ rng (nx e (p + 1)) (nx e (p + 2))) (-1)) : Good e (M + 3000) σ μ := by
  have hx := PT_x A ho (fun s => rfl)
  have S := PT_s A 3
  have o := ops_1 ho.1.1 ho.1.2
  have hm := act_f A ha
  rw [af_4, act_b, hw] at hm
  have h256 := fun i => xP_256 S.1 i
  rw [sf_27, gd_in (by decide) o.1.1 o.1.2, gd_in (by decide) o.2.1.1 o.2.1.2, h256, h256] at hx
  have f01 := (PT_N A).1
  have k01 := (PT_N A).2.1
  generalize xP σ f p 3 = τ at hx S h256
  generalize actP μ (n - 1) q = τm at hm S
  generalize nx e (p + 1) = r at *
  generalize nx e (p + 2) = cnt at *
  obtain ⟨rL, hL, zL⟩ := id L
  have hl := (zk_of Z zL).1
  rw [List.length_append, rng_len] at hl
  have e411 : τ.1 411 = f := S.2.2
  have fg := (MR0_f S.1.1.1).2.1
  have e344 : τ.2.2.1 344 f.toNatClampNeg = g := S.1.2.1
  have FCx := S.1.1.1.2.2.2.2.2.1
  obtain ⟨c1, c2, c3, c4, c5, c6, c7, c8, c9, c10, c11, c12, c13⟩ := FCx
  rw [S.1.2.1] at c6
  have e261 : τ.2.2.1 261 g.toNatClampNeg = sI (eσ e) 261 g := by
    have := PT_R S.1
    rw [S.1.2.1] at this
    exact this
  have zk0 := zk_of Z z
  have S0 := S
  rw [← List.append_nil ρ, ← rng_0 (r := r)] at S0
  have cb := cl_b ok.2.2.1 ok.2.2.2.1
  obtain ⟨υ, υm, u1, u2, u3⟩ := oth_lp (σ := τ) (μ := τm) (N := eN e) (B4 := mff τm (n - 1) 3 - mff τm (n - 1) 4) zk0 ok hl (eN e) 0 (by decide) ok.2.2.1 (by rw [show (0 : Int32).toInt = 0 from rfl]; omega) _ _ S0 rfl
  refine Good_2 A (hx.trans ?_) (hm.trans ?_) (GK_lo G (oth_PT u3) L)
  · rw [xx6_others, e411, gd_in (by decide) f01.1 f01.2, e344, gd_in (by decide) c6.1 c6.2, e261, lt, if_pos ok.2.2.1, xx6_others_b41, u1, bd_so]
    rfl
  · rw [mm_rest, if_pos ok.2.2.1, mm_rest_14, gd_in (by decide) k01.1 k01.2, gd_in (by decide) k01.1 k01.2, lt]
    exact u2
/-- OTHERS, PUT_REST: all -/
theorem r_othersm {e : EV} {w : WD} {xf : Int32 → List Int32} {c d : Int32} {rest : PL2} {f : Int32} {fl : List Int32} {ρ : List Int32} {g p q F n : Int32} {σ μ : mS} (Z : ZRok e) (BN : 1000000 ≤ eN e) {M rk : Nat} (G : GK e M F n rk) (A : PT e w xf c d rest f fl ρ (-1) g p q F n σ μ) (z : eZ e rk g p q ρ (-1)) (ho : opx e p 27) (ha : acm e q 4) (hw : sI (eμ e) 71 q = -1) (h2 : nx e (p + 2) = -1) (ok : okr ρ (nx e (p + 1)) 100 (sI (eσ e) 261 g)) (hl : ρ.length ≤ 1800) (L : lo e rk g (p + 3) (q + 1) ρ (nx e (p + 1))) : Good e (M + 3000) σ μ := by
  have hx := PT_x A ho (fun s => rfl)
  have S := PT_s A 3
  have o := ops_1 ho.1.1 ho.1.2
  have hm := act_f A ha
  rw [af_4, act_b, hw] at hm
  have h256 := fun i => xP_256 S.1 i
  rw [sf_27, gd_in (by decide) o.1.1 o.1.2, gd_in (by decide) o.2.1.1 o.2.1.2, h256, h256, h2] at hx
  have f01 := (PT_N A).1
  have k01 := (PT_N A).2.1
  generalize xP σ f p 3 = τ at hx S h256
  generalize actP μ (n - 1) q = τm at hm S
  generalize nx e (p + 1) = r at *
  have e411 : τ.1 411 = f := S.2.2
  have e344 : τ.2.2.1 344 f.toNatClampNeg = g := S.1.2.1
  have R25 : sI (eσ e) 261 g ≤ 2500 := by
    have := MR0_f S.1.1.1
    rw [PT_R S.1] at this
    exact this.2.1.2.1
  have FCx := S.1.1.1.2.2.2.2.2.1
  rw [S.1.2.2.2.2.2] at FCx
  obtain ⟨c1, c2, c3, c4, c5, c6, c7, c8, c9, c10, c11, c12, c13⟩ := FCx
  rw [S.1.2.1] at c6
  have e348 : τ.2.2.1 348 f.toNatClampNeg = mff τm (n - 1) 4 := c7.1
  have e148 : τm.2.2.1 148 (n - 1).toNatClampNeg = mff τm (n - 1) 4 := rfl
  have e261 : τ.2.2.1 261 g.toNatClampNeg = sI (eσ e) 261 g := by
    have := PT_R S.1
    rw [S.1.2.1] at this
    exact this
  have zk0 := zk_of Z z
  have S0 := S
  rw [← List.append_nil ρ, ← rng_0 (r := r)] at S0
  have ok' := okr_le ok c7.2.1 c7.2.2 R25
  have cb := cl_b ok'.2.2.1 ok'.2.2.2.1
  have cb2 := tI_le.mp c7.2.2
  rw [show (100 : Int32).toInt = 100 from rfl] at cb2
  obtain ⟨υ, υm, u1, u2, u3⟩ := oth_lp (σ := τ) (μ := τm) (N := eN e) (B4 := mff τm (n - 1) 3 - mff τm (n - 1) 4) zk0 ok' (by omega) (eN e) 0 (by decide) ok'.2.2.1 (by rw [show (0 : Int32).toInt = 0 from rfl]; omega) _ _ S0 rfl
  refine Good_2 A (hx.trans ?_) (hm.trans ?_) (GK_lo G (oth_PTm u3 ok.1 c7.2.1 c7.2.2) L)
  · rw [xx6_others, e411, gd_in (by decide) f01.1 f01.2, e344, gd_in (by decide) c6.1 c6.2, e261, lt, if_neg (by decide), gd_in (by decide) f01.1 f01.2, e348, xx6_others_b41, u1, bd_so]
    rfl
  · rw [mm_rest, if_neg (by decide), gd_in (by decide) k01.1 k01.2, e148, mm_rest_14, gd_in (by decide) k01.1 k01.2, gd_in (by decide) k01.1 k01.2, lt]
    exact u2
