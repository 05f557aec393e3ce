/-! LAYER 2: functions of the house: running -/
def tX6 (k : Nat) : Bool := k == 194 || k == 335
def tM6 (k : Nat) : Bool := k == 18 || k == 157
theorem tX6_f {k : Nat} (h : k ≠ 194 ∧ k ≠ 335) : tX6 k = false := by
  simp only [tX6, Bool.or_eq_false_iff, beq_eq_false_iff_ne]; exact h
theorem tM6_f {k : Nat} (h : k ≠ 18 ∧ k ≠ 157) : tM6 k = false := by
  simp only [tM6, Bool.or_eq_false_iff, beq_eq_false_iff_ne]; exact h
def numX (σ : mS) : mS := md_al (md_pl σ 194 (sG σ 194 + 1)) 335 (Int32.toNatClampNeg 0) (sG σ 194)
def numM (μ : mS) : mS := md_ai (md_pi μ 18 (sF μ 18 + 1)) 157 (Int32.toNatClampNeg 120) (sF μ 18 + 1)
theorem numX_fr {σ : mS} : m_fr tX6 σ (numX σ) := mf_al (mf_pl mf_rfl rfl) rfl
theorem numM_fr {μ : mS} : m_fr tM6 μ (numM μ) := mf_ai (mf_pi mf_rfl rfl) rfl
/-- the main coroutine takes a number -/
theorem ser_ME {S : SR} {K : Int32 → Int32 → Int32 → Prop} {q : Int} {w : WD} {xf : Int32 → List Int32} {c d : Int32} {rest : PL2} {σ μ : mS} (H : ME S K q w xf c d rest σ μ) (z : sI μ 157 120 = 0) : ME S K q w xf c d rest (numX σ) (numM μ) := by
  obtain ⟨⟨RR, h1⟩, Z, HH, X, C, Bc, n, nd, ⟨o1, o2, o3, o4, o5⟩, f1, f2, f3⟩ := H
  obtain ⟨C1, C2, ⟨fcs, s1, s2, s3, s4⟩, ⟨c4, c4'⟩, C5, KLh⟩ := C
  have W := RR.1
  have fr := numX_fr (σ := σ)
  have frm := numM_fr (μ := μ)
  have p : ∀ k, (k ≠ 194 ∧ k ≠ 335) → tX6 k = false := fun k h => tX6_f h
  have p' : ∀ k, (k ≠ 18 ∧ k ≠ 157) → tM6 k = false := fun k h => tM6_f h
  have hc : cds w σ (numX σ) := cds_fr fr (p 257 (by omega)) (p 261 (by omega)) (p 222 (by omega))
  have hxcs : ∀ g, xcs σ (numX σ) g := fun g => xcs_pK fr (fun k hk => p k (by omega))
  have xI : ∀ k, sI (numX σ) k = sI σ k := fun k => by funext x; simp (disch := decide) only [numX, sF_pi, sF_pl, sF_ai, sF_al, sG_pi, sG_pl, sG_ai, sG_al, sI_pi, sI_pl, sI_al, sI_ai1, sI_ai2, sJ_pi, sJ_pl, sJ_ai, sJ_al1, sJ_al2, Nat.reduceEqDiff, if_true, if_false, ne_eq, not_false_eq_true, ite_true, ite_false]
  have xJ : ∀ k x, 0 ≤ x → x ≠ 0 → sJ (numX σ) k x = sJ σ k x := fun k x x0 ne => by
    have na : ¬ (x = 0) := ne
    simp only [numX, sJ_pl, sJ_al (show (0 : Int32) ≤ 0 by decide) x0, na, and_false, if_false]
  have x335 : sJ (numX σ) 335 0 = sG σ 194 := by simp (disch := decide) only [numX, sF_pi, sF_pl, sF_ai, sF_al, sG_pi, sG_pl, sG_ai, sG_al, sI_pi, sI_pl, sI_al, sI_ai1, sI_ai2, sJ_pi, sJ_pl, sJ_ai, sJ_al1, sJ_al2, Nat.reduceEqDiff, if_true, if_false, ne_eq, not_false_eq_true, ite_true, ite_false]
  have x194 : sG (numX σ) 194 = sG σ 194 + 1 := by simp (disch := decide) only [numX, sF_pi, sF_pl, sF_ai, sF_al, sG_pi, sG_pl, sG_ai, sG_al, sI_pi, sI_pl, sI_al, sI_ai1, sI_ai2, sJ_pi, sJ_pl, sJ_ai, sJ_al1, sJ_al2, Nat.reduceEqDiff, if_true, if_false, ne_eq, not_false_eq_true, ite_true, ite_false]
  have yI : ∀ k x, 0 ≤ x → (k ≠ 157 ∨ x ≠ 120) → sI (numM μ) k x = sI μ k x := fun k x x0 ne => by
    simp only [numM, sI_pi, sI_ai (show (0 : Int32) ≤ 120 by decide) x0]
    rw [if_neg (fun q => by rcases ne with h | h; exact h q.1; exact h q.2)]
  have y157 : sI (numM μ) 157 120 = sF μ 18 + 1 := by simp (disch := decide) only [numM, sF_pi, sF_pl, sF_ai, sF_al, sG_pi, sG_pl, sG_ai, sG_al, sI_pi, sI_pl, sI_al, sI_ai1, sI_ai2, sJ_pi, sJ_pl, sJ_ai, sJ_al1, sJ_al2, Nat.reduceEqDiff, if_true, if_false, ne_eq, not_false_eq_true, ite_true, ite_false]
  have y18 : sF (numM μ) 18 = sF μ 18 + 1 := by simp (disch := decide) only [numM, sF_pi, sF_pl, sF_ai, sF_al, sG_pi, sG_pl, sG_ai, sG_al, sI_pi, sI_pl, sI_al, sI_ai1, sI_ai2, sJ_pi, sJ_pl, sJ_ai, sJ_al1, sJ_al2, Nat.reduceEqDiff, if_true, if_false, ne_eq, not_false_eq_true, ite_true, ite_false]
  have yF : ∀ k, k ≠ 18 → sF (numM μ) k = sF μ k := fun k hk => by
    by_cases q : k = 157
    · subst q; simp (disch := decide) only [numM, sF_pi, sF_pl, sF_ai, sF_al, sG_pi, sG_pl, sG_ai, sG_al, sI_pi, sI_pl, sI_al, sI_ai1, sI_ai2, sJ_pi, sJ_pl, sJ_ai, sJ_al1, sJ_al2, Nat.reduceEqDiff, if_true, if_false, ne_eq, not_false_eq_true, ite_true, ite_false]
    · exact mf_F frm (p' k ⟨hk, q⟩)
  have mff' : ∀ k j, j < 10 → mff (numM μ) k j = mff μ k j := fun k j hj => mf_I frm (p' (144 + j) (by omega))
  have e18 : (sF μ 18 + 1).toInt = (sF μ 18).toInt + 1 := tI_s (RH_ser RR)
  have s0 : 0 ≤ sF μ 18 := RR.2.2.2.2.2.2.1
  have ne0 : ¬ sF μ 18 + 1 = 0 := fun q => by
    rw [tI_eq, e18] at q
    rw [tI_le] at s0
    have z0 : (0 : Int32).toInt = 0 := rfl
    omega
  have fq : fQ (numM μ) = fQ μ + 1 := by
    simp only [fQ]; rw [yF 171 (by omega), y157, if_neg ne0, z, if_pos rfl]; omega
  have b171 : (sF μ 171).toInt ≤ 120 := by
    rw [c4']
    simp only [List.length_append, List.length_map] at s4
    omega
  have fqb : fQ (numM μ) ≤ 121 := by
    simp only [fQ]; rw [yF 171 (by omega)]
    split <;> omega
  obtain ⟨es, es', RT0⟩ := RR.2.2.1
  have RH1 : RH K (q + fQ (numM μ)) w (numX σ) (numM μ) := by
    refine ⟨W, RS_fr RR.2.1 fr frm (fun k a b => p k (by omega)) (fun k a b c => p' k (by omega)), ⟨es, es', RT_fr RT0 wle_rfl rfl fr frm (fun k hk => p k (by omega)) (fun k hk => p' k (by omega))⟩, RF_fr RR.2.2.2.1 wle_rfl rfl fr frm (fun k a b => p k (by omega)) (fun k a b c => p' k (by omega)), RB_fr RR.2.2.2.2.1 wle_rfl rfl fr frm (fun k a b => p k (by omega)) (fun k a b => p' k (by omega)), ?_, ?_, ?_, by omega⟩
    · rw [x194, y18, RR.2.2.2.2.2.1, ll_ad s0 (RH_ser RR)]
    · have := RH_ser RR
      rw [y18]; lia
    · rw [y18, yF 29 (by omega), yF 48 (by omega), e18, fq]
      have := RR.2.2.2.2.2.2.2.1
      omega
  refine ⟨⟨RH1, h1⟩, ZS_fr Z fr rfl, HO_fr HH wle_rfl fr frm (fun k hk => p k (by omega)) (fun k a b => p' k (by omega)) (fun x y _ => xL_fr fr (fun k a b => p k (by omega))) (fun k _ => by rw [frm.2.2.1 44 rfl]), ?_, ?_, ?_, ?_, nd, ?_, ?_, ?_, ?_⟩
  · obtain ⟨fc, bl, h1, h2, h3, h4, h5, ⟨k1, k2, k3, k4⟩, h7, h8⟩ := X
    have y : ∀ k, 343 ≤ k → k ≤ 365 → sF (numX σ) k = sF σ k := fun k a b => mf_F fr (p k (by omega))
    refine ⟨fc, bl, ?_, fun e he => ?_, h3, h4, h5, ⟨?_, ?_, ?_, ?_⟩, h7, ?_⟩
    · rw [xI 356, y 357 (by omega) (by omega)]; exact h1
    · rw [xI 356, xI 326]; exact h2 e he
    · rw [xI 359, y 361 (by omega) (by omega)]; exact k1
    · rw [xI 360, y 362 (by omega) (by omega)]; exact k2
    · rw [xI 347, xI 349, y 363 (by omega) (by omega)]; exact k3
    · rw [y 363 (by omega) (by omega)]; exact k4
    · rw [xI 349]; exact h8
  · refine ⟨fun e g heg => ?_, fun g g0 g1 hg => ?_, ⟨fcs, ?_, s2, s3, s4⟩, ⟨?_, ?_⟩, ?_, ?_⟩
    · obtain ⟨q1, q2, q3, q4, q5⟩ := C1 e g heg
      obtain ⟨e1, g0, g1⟩ := W.2.2.2.2.2 e g heg
      have e0 : 0 ≤ e := by lia
      have en : e ≠ 0 := by lia
      have gn : g ≠ 120 := by lia
      refine ⟨q1, by rw [xI 323, yI 156 g g0 (.inl (by omega))]; exact q2, by rw [xJ 335 e e0 en, yI 157 g g0 (.inr gn)]; exact q3, by rw [yI 170 g g0 (.inl (by omega))]; exact q4, q5.imp_right (fun kd => ?_)⟩
      refine cKd_cg kd wle_rfl rfl (fun f _ => hxcs f) hc ⟨fun k _ _ _ => by rw [xI k], xJ 325 e e0 en, xJ 335 e e0 en⟩ ⟨fun k _ _ => yI k g g0 (.inr gn), fun k j _ _ _ => ?_, fun i _ _ => ?_⟩
      · simp only [kff]
        rw [yI 165 g g0 (.inl (by omega)), mf_I (k := 176) frm rfl]
      · simp only [kpt, kpv]
        rw [yI 163 g g0 (.inl (by omega)), mf_I (k := 173) frm rfl, mf_J (k := 174) frm rfl]
        exact ⟨rfl, rfl⟩
    · rw [yI 170 g g0 (.inl (by omega))]; exact C2 g g0 g1 hg
    · rw [xI 336, mf_F fr (p 337 (by omega))]; exact s1
    · rw [mf_F fr (p 338 (by omega))]; exact c4
    · rw [yF 171 (by omega)]; exact c4'
    · rw [x335, y157, RR.2.2.2.2.2.1, ll_ad s0 (RH_ser RR)]
    · refine KL_sub KLh (fun g hg => ?_) (yF 175 (by omega)) (yF 177 (by omega))
      obtain ⟨g0, g1, g2, g3, g4⟩ := hg
      rw [yI 170 g g0 (.inl (by omega))] at g2
      rw [yI 156 g g0 (.inl (by omega))] at g3
      rw [yI 159 g g0 (.inl (by omega))] at g4
      exact ⟨⟨g0, g1, g2, g3, g4⟩, yI 163 g g0 (.inl (by omega)), yI 164 g g0 (.inl (by omega)), yI 165 g g0 (.inl (by omega)), yI 166 g g0 (.inl (by omega))⟩
  · refine BC_pt wle_rfl hc hxcs mff' (fun x => mf_I frm (p' 144 (by omega))) (by funext x; exact mf_I frm (p' 141 (by omega))) (by funext x; exact mf_J frm (p' 142 (by omega))) Bc (fun pr hpr => ?_)
    exact ⟨fun k _ _ _ _ => by rw [xI k], fun k _ _ hk => mf_I frm (p' k (by omega))⟩
  · exact ⟨by rw [mf_F fr (p 339 (by omega))]; exact n.1, by rw [yF 172 (by omega)]; exact n.2.1, by rw [xI 323]; exact n.2.2.1, by rw [mf_I (k := 156) frm (p' 156 (by omega))]; exact n.2.2.2⟩
  · have ks : kSum w (numM μ) = kSum w μ := by
      simp only [kSum]
      have : (wC w).map (fun p => (sI (numM μ) 166 p.2).toInt) = (wC w).map (fun p => (sI μ 166 p.2).toInt) := List.map_congr_left (fun pr hpr => by
        rw [mf_I (k := 166) frm (p' 166 (by omega))])
      rw [this]
    rw [mf_F fr (p 358 (by omega)), yF 155 (by omega), yF 154 (by omega), ks]
    exact ⟨o1, o2, o3, o4, o5⟩
  · rw [mf_F fr (p 396 (by omega)), yF 180 (by omega)]; exact f1
  · rw [mf_F fr (p 396 (by omega))]; exact f2
  · rw [yF 178 (by omega)]; exact f3
theorem ser_L {L : LQ} {w : WD} {g : Int32} {σ μ : mS} (H : LC L w g σ μ) (z : sI μ 157 120 = 0) : LC L w g (numX σ) (numM μ) := by
  have fr := numX_fr (σ := σ)
  have frm := numM_fr (μ := μ)
  have p : ∀ k, (k ≠ 194 ∧ k ≠ 335) → tX6 k = false := fun k h => tX6_f h
  have p' : ∀ k, (k ≠ 18 ∧ k ≠ 157) → tM6 k = false := fun k h => tM6_f h
  have V : SV (lE L) w (numX σ) (numM μ) := SV_fr H.1.1.2.1 wle_rfl fr frm (fun k hk => by
    refine p k ?_
    rcases hk with hk | hk
    · have := xR_f hk; omega
    · omega) (fun k hk => by
    refine p' k ?_
    rcases hk with hk | hk
    · have := @mR_t k
      by_cases c : (2 ≤ k ∧ k ≤ 57) ∨ (141 ≤ k ∧ k ≤ 190)
      · rw [this (c.imp_right (fun q => .inl q))] at hk; exact absurd hk (by decide)
      · omega
    · omega)
  have F : FL (eS (lE L)) w (numX σ) (mff (numM μ)) (sI (numM μ) 141) (sJ (numM μ) 142) (btO (ld L)) (sI (numM μ) 162 (ld L)) (sI (numM μ) 161 (ld L)) (lX L (lc L)) (sF (numM μ) 154) (lT L) := by
    have e1 : sI (numM μ) 162 = sI μ 162 := by funext m; exact mf_I frm (p' 162 (by omega))
    have e2 : sI (numM μ) 161 = sI μ 161 := by funext m; exact mf_I frm (p' 161 (by omega))
    have e3 : sI (numM μ) 141 = sI μ 141 := by funext m; exact mf_I frm (p' 141 (by omega))
    have e4 : sJ (numM μ) 142 = sJ μ 142 := by funext m; exact mf_J frm (p' 142 (by omega))
    have e5 : sF (numM μ) 154 = sF μ 154 := mf_F frm (p' 154 (by omega))
    rw [e1, e2, e3, e4, e5]
    exact FL_cg H.1.1.2.2 (CL_kb H.1.1) wle_rfl (fun f _ => xcs_pK fr (fun k hk => p k (by omega))) (cds_fr fr (p 257 (by omega)) (p 261 (by omega)) (p 222 (by omega))) (fun k j _ _ hj => mf_I frm (p' (144 + j) (by omega))) (fun _ _ _ => ⟨rfl, rfl⟩)
  exact LC_fr H ⟨⟨ser_ME H.1.1.1 z, V, F⟩, by rw [mf_F fr (p 396 (by omega))]; exact H.1.2.1, by rw [mf_F frm (p' 154 (by omega))]; exact H.1.2.2⟩ wle_rfl fr frm (fun k hk => p k (by omega)) (fun k hk => p' k (by omega))
/-- the coroutine that runs is given -/
theorem run_x {N : Nat} {T : ty_xx6_begin} {σ : mS} {a2 a3 a4 : Int32} : bxx8_coroutines N T σ 44 a2 a3 a4 = (if sF σ 339 = 0 then gd (inB 0 121) (if lg_cmp (sJ σ 335 0) 0 = 0 then gd (inB 0 121) (gd (inB 0 121) (xx8_coroutines_b257 N T (numX σ))) else xx8_coroutines_b257 N T σ) else xx8_coroutines_b257 N T σ) := rfl
theorem run_m {N : Nat} {μ : mS} : mm_ofThreads N μ 44 = (if sF μ 172 = 120 then gd (inB 120 121) (if sI μ 157 120 = 0 then gd (inB 120 121) (mm_ofThreads_172 N (numM μ)) else mm_ofThreads_172 N μ) else mm_ofThreads_172 N μ) := rfl
theorem run_end {L : LQ} {w : WD} {σ μ : mS} {T : ty_xx6_begin} (H : LC L w 0 σ μ) : LO L w (bx (xx8_coroutines_b257 (lNn L) T σ) (fun z => some (.ok z.2))) (mm_ofThreads_172 (lNn L) μ) := by
  have M := H.1.1.1
  have rn := M.2.2.2.2.2.2.1
  have B := M.2.2.2.2.2.1
  have cc := ME_c M
  have vt : VV w 7 (Int32.toInt64 (sF σ 339)) 6 (Int32.toInt64 (sF μ 172)) := by
    refine .inr (.inr (.inr (.inr (.inr (.inr (.inr (.inl ⟨rfl, rfl, _, _, rfl, rfl, ?_⟩)))))))
    rw [rn.1, rn.2.1]
    rcases BC_mem B (lc L, ld L) List.mem_cons_self with q | ⟨q, _⟩
    · exact .inr (Prod.mk.inj q)
    · exact .inl q
  obtain ⟨τ, τm, b1, b2, b3, fr, frm⟩ := give_L (N := lNn L) H (by decide) vt
  have e1 : sF τ 339 = lc L := (mf_F fr rfl).trans rn.1
  have e2 : sF τm 172 = ld L := (mf_F frm rfl).trans rn.2.1
  rw [xx8_coroutines_b257, mm_ofThreads_172]
  simp only [sF_fold]
  rw [xx8_give, b1, b2, bx_so, bx_so, bd_so, e1, e2]
  by_cases z : lc L = 0
  · obtain ⟨τ, τm, b1, b2, b3⟩ := truth_L (N := lNn L) b3 (by decide) (r := 1) (.inl rfl)
    rw [if_neg (show ¬ (1 : Int32) = 0 by decide)] at b2
    rw [if_pos z, if_pos (cc.2.2.2.2.2.2.mpr z), xx8_coroutines_b283, mm_ofThreads_199, b1, b2, bx_so, bd_so, gd_z1, bx_so, mm_ofThreads_202]
    exact LO_ok b3
  · obtain ⟨τ, τm, b1, b2, b3⟩ := truth_L (N := lNn L) b3 (by decide) (r := 0) (.inr rfl)
    rw [if_pos rfl] at b2
    rw [if_neg z, if_neg (fun q => z (cc.2.2.2.2.2.2.mp q)), xx8_coroutines_b283, mm_ofThreads_199, b1, b2, bx_so, bd_so, gd_z1, bx_so, mm_ofThreads_202]
    exact LO_ok b3
theorem ok1_257 {N : Nat} {T : ty_xx6_begin} {σ : mS} {z : Int32 × mS} (h : xx8_coroutines_b257 N T σ = some (.ok z)) : z.1 = 1 := by
  rw [xx8_coroutines_b257] at h
  refine ok1_bx (fun x z h => ?_) h
  split at h <;> (rw [xx8_coroutines_b283] at h; exact ok1_bx (fun x z h => by rw [gd_z1] at h; cases h; rfl) h)
theorem lib_running {L : LQ} {w : WD} {σ μ : mS} {T : ty_xx6_begin} {a2 a3 a4 : Int32} (H : LC L w 0 σ μ) : LO L w (bx (bxx8_coroutines (lNn L) T σ 44 a2 a3 a4) (fun z => some (.ok z.2))) (mm_ofThreads (lNn L) μ 44) ∧ (∀ z, bxx8_coroutines (lNn L) T σ 44 a2 a3 a4 = some (.ok z) → z.1 = 1) := by
  have M := H.1.1.1
  have rn := M.2.2.2.2.2.2.1
  have C5 := M.2.2.2.2.1.2.2.2.2.1
  have cc := ME_c M
  rw [run_x, run_m, rn.1, rn.2.1]
  by_cases z : lc L = 0
  · rw [if_pos z, if_pos (cc.2.2.2.2.2.2.mpr z), gd_in (by decide) (by decide) (by decide), gd_in (by decide) (by decide) (by decide)]
    have e : lg_cmp (sJ σ 335 0) 0 = 0 ↔ sI μ 157 120 = 0 := by
      rw [lgc_eq, C5]
      constructor
      · intro h
        have := congrArg Int64.toInt32 h
        rw [h_ll] at this
        exact this
      · intro h; rw [h]; rfl
    by_cases s : sI μ 157 120 = 0
    · rw [if_pos (e.mpr s), if_pos s, gd_in (by decide) (by decide) (by decide), gd_in (by decide) (by decide) (by decide), gd_in (by decide) (by decide) (by decide)]
      exact ⟨run_end (ser_L H s), fun z hz => ok1_257 hz⟩
    · rw [if_neg (fun q => s (e.mp q)), if_neg s]
      exact ⟨run_end H, fun z hz => ok1_257 hz⟩
  · rw [if_neg z, if_neg (fun q => z (cc.2.2.2.2.2.2.mp q))]
    exact ⟨run_end H, fun z hz => ok1_257 hz⟩
