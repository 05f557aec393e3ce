/-! LAYER 2: functions of the house: create, wrap -/
theorem VV_fun {w : WD} {tm : Int32} {vx vm : Int64} (v : VV w 6 vx tm vm) : ∃ b, vm = Int32.toInt64 b := by
  rcases v with ⟨h, _⟩ | ⟨h, _⟩ | ⟨h, _⟩ | ⟨h, _⟩ | ⟨h, _⟩ | ⟨h, _⟩ | ⟨_, _, _, b, _, h, _⟩ | ⟨h, _⟩ | ⟨h, _⟩
  case inr.inr.inr.inr.inr.inr.inl => exact ⟨b, h⟩
  all_goals exact absurd h (by decide)
theorem create_38 {N : Nat} {z : mS} : mm_create N z 38 = bd (mm_valueOf N z 1) (fun z1 => bd (mm_makeThread N z1.2 (Int64.toInt32 z1.1)) (fun z2 => if 0 ≤ z2.1 then bd (mm_giveValue N z2.2 6 (Int32.toInt64 z2.1)) (fun z5 => some z5) else some z2.2)) := rfl
theorem create_42 {N : Nat} {z : mS} : mm_create N z 42 = bd (mm_valueOf N z 1) (fun z1 => bd (mm_makeThread N z1.2 (Int64.toInt32 z1.1)) (fun z2 => if 0 ≤ z2.1 then bd (mm_makeFunction N z2.2 (-1 - z2.1) 0) (fun z3 => if z3.1 < 0 then mm_create_51 N z3.2 else bd (mm_giveValue N z3.2 5 (Int32.toInt64 z3.1)) (fun z4 => mm_create_51 N z4)) else some z2.2)) := rfl
theorem thread_L {α : Type} {L : LQ} (E : EVok (lE L)) {w : WD} {g : Int32} {σ μ : mS} {vx : Int64} {fn : Int32} (H : LC L w g σ μ) (v : VV w 6 vx 5 (Int32.toInt64 fn)) {f : Int32 × mS → Option (Except (Nat × mS) α)} {k' : Int32 × mS → Option mS} (hk : ∀ z, sF z 178 ≠ 0 → ∃ z', k' (-1, z) = some z' ∧ m_fr tK z z') : (∃ a b τ τm, xx5_make (lNn L) σ 6 vx = some (.ok (a, τ)) ∧ mm_makeThread (lNn L) μ fn = some (b, τm) ∧ (1 ≤ a ∧ a ≤ 120) ∧ (0 ≤ b ∧ b < 120) ∧ LC L (wAddC w a b) g τ τm) ∨ OEL (α := α) L w (bx (xx5_make (lNn L) σ 6 vx) f) (bd (mm_makeThread (lNn L) μ fn) k') := by
  have nx := H.2.2.1.2.2.2.2.2
  rcases thread_ME (N := eN (lE L)) (EV_N E) H.1.1.1 nx v with ⟨o1, o2⟩ | ⟨a, b, τ, τm, o1, o2, a0, b0, M, fr, frm⟩
  · refine .inr (.inr ⟨w, σ, μ, 1101, 3, .inl ⟨rfl, rfl⟩, ?_, fun μ' hm => ?_, H.1.1⟩)
    · show bx (xx5_make (eN (lE L)) σ 6 vx) f = _
      rw [o1]; rfl
    · have o3 := o_breakOff hm
      obtain ⟨z', z1, z2⟩ := hk μ' o3
      refine ⟨z', ?_, z2, by rw [tK_178 z2]; exact o3⟩
      show bd (mm_makeThread (eN (lE L)) μ fn) k' = _
      have hm' : mm_breakOff (eN (lE L)) μ 3 = some μ' := hm
      rw [o2, hm']
      exact z1
  · have p : ∀ k, (k < 194 ∨ (194 < k ∧ k < 323) ∨ (327 < k ∧ k < 335) ∨ 338 < k) → tX5 k = false := fun k h => tX5_f h
    have p' : ∀ k, (k < 18 ∨ (18 < k ∧ k < 156) ∨ (159 < k ∧ k < 164) ∨ k = 165 ∨ (166 < k ∧ k < 170) ∨ 171 < k) → tM5 k = false := fun k h => tM5_f h
    have wl : wle w (wAddC w a b) := wAddC_le
    have V : SV (lE L) (wAddC w a b) τ τm := SV_fr H.1.1.2.1 wl fr frm (fun k hk => by
      refine p k ?_
      rcases hk with hk | hk
      · have := xR_f hk; omega
      · omega) (fun k hk => by
      refine p' k ?_
      rcases hk with hk | hk
      · have := @mR_t k
        by_cases c : (2 ≤ k ∧ k ≤ 57) ∨ (141 ≤ k ∧ k ≤ 190)
        · rw [this (c.imp_right (fun q => .inl q))] at hk; exact absurd hk (by decide)
        · omega
      · omega)
    have F : FL (eS (lE L)) (wAddC w a b) τ (mff τm) (sI τm 141) (sJ τm 142) (btO (ld L)) (sI τm 162 (ld L)) (sI τm 161 (ld L)) (lX L (lc L)) (sF τm 154) (lT L) := by
      have e1 : sI τm 162 = sI μ 162 := by funext m; exact mf_I frm (p' 162 (by omega))
      have e2 : sI τm 161 = sI μ 161 := by funext m; exact mf_I frm (p' 161 (by omega))
      have e3 : sI τm 141 = sI μ 141 := by funext m; exact mf_I frm (p' 141 (by omega))
      have e4 : sJ τm 142 = sJ μ 142 := by funext m; exact mf_J frm (p' 142 (by omega))
      have e5 : sF τm 154 = sF μ 154 := mf_F frm (p' 154 (by omega))
      rw [e1, e2, e3, e4, e5]
      exact FL_cg H.1.1.2.2 (CL_kb H.1.1) wl (fun f _ => xcs_pK fr (fun k hk => p k (by omega))) (cds_fr fr (p 257 (by omega)) (p 261 (by omega)) (p 222 (by omega))) (fun k j _ _ hj => mf_I frm (p' (144 + j) (by omega))) (fun _ _ _ => ⟨rfl, rfl⟩)
    exact .inl ⟨a, b, τ, τm, o1, o2, a0, b0, LC_fr H ⟨⟨M, V, F⟩, by rw [mf_F fr (p 396 (by omega))]; exact H.1.2.1, by rw [mf_F frm (p' 154 (by omega))]; exact H.1.2.2⟩ wl fr frm (fun k hk => p k (by omega)) (fun k hk => p' k (by omega))⟩
/-- a function that resumes is made -/
theorem resumer_L {α : Type} {L : LQ} {w : WD} {g a b : Int32} {σ μ : mS} (H : LC L w g σ μ) (h : (a, b) ∈ wC w) {f : Int32 × mS → Option (Except (Nat × mS) α)} {k' : Int32 × mS → Option mS} (hk : ∀ z, sF z 178 ≠ 0 → ∃ z', k' (-1, z) = some z' ∧ m_fr tK z z') : (∃ x y τ τm, xx3_function (lNn L) σ (-1 - a) 0 = some (.ok (x, τ)) ∧ mm_makeFunction (lNn L) μ (-1 - b) 0 = some (y, τm) ∧ 0 ≤ y ∧ LC L (wAddF w x y) g τ τm) ∨ OEL (α := α) L w (bx (xx3_function (lNn L) σ (-1 - a) 0) f) (bd (mm_makeFunction (lNn L) μ (-1 - b) 0) k') := by
  rcases function_h (N := eN (lE L)) (gx := -1 - a) (gm := -1 - b) (n := 0) H.1.1.1.1.1 (by decide) (by decide) with ⟨o1, o2⟩ | ⟨x, y, τ, τm, o1, o2, x0, y0, nw, fr, frm, ⟨s1, s2, s3, s4, s5, s6⟩, i1, i2, R⟩
  · refine .inr (.inr ⟨w, σ, μ, 1101, 3, .inl ⟨rfl, rfl⟩, ?_, fun μ' hm => ?_, H.1.1⟩)
    · show bx (xx3_function (eN (lE L)) σ (-1 - a) 0) f = _
      rw [o1]; rfl
    · have o3 := o_breakOff hm
      obtain ⟨z', z1, z2⟩ := hk μ' o3
      refine ⟨z', ?_, z2, by rw [tK_178 z2]; exact o3⟩
      show bd (mm_makeFunction (eN (lE L)) μ (-1 - b) 0) k' = _
      have hm' : mm_breakOff (eN (lE L)) μ 3 = some μ' := hm
      rw [o2, hm']
      exact z1
  · have R1 := R τ τm mf_rfl mf_rfl (fun m _ _ => mf_I fr (fX_f (by omega))) (fun m _ _ => mf_I frm (fM_f (by omega))) (.inr ⟨rfl, a, b, h, rfl, rfl⟩) (fun i i0 i1 => absurd i1 (by lia))
    refine .inl ⟨x, y, τ, τm, o1, o2, by lia, LC_hp H R1 wAddF_le rfl rfl rfl ?_ fr frm (fun k hk => fX_f (by omega)) (fun k hk => fM_f (by omega)) (fun k hk => ?_)⟩
    · refine ⟨fun m => mf_I fr (fX_f (by omega)), fun m => mf_I fr (fX_f (by omega)), fun x' y' hxy => ?_⟩
      have rg := RF_rng H.1.1.1.1.1.2.2.2.1 hxy
      exact i1 x' rg.1 (fun q => nw.1 (by rw [← q]; exact List.mem_map_of_mem (f := Prod.fst) hxy))
    · have := i2 (Int32.ofNat k) (oN_nn (by omega)) (fun q => by
        have e : (Int32.ofNat k).toInt = (k : Int) := tI_lit (by omega)
        have y1 := y0.1
        rw [tI_le] at y1
        have z64 : (64 : Int32).toInt = 64 := rfl
        rw [← q] at y1
        omega)
      simp only [sI] at this
      rw [oN_cl (by omega)] at this
      exact this
theorem lib_create {L : LQ} (E : EVok (lE L)) {w : WD} {σ μ : mS} {T : ty_xx6_begin} {a2 a3 a4 : Int32} (H : LC L w 0 σ μ) (hl : lB L = 38) : LO L w (bx (bxx8_coroutines (lNn L) T σ 38 a2 a3 a4) (fun z => some (.ok z.2))) (mm_ofThreads (lNn L) μ 38) ∧ (∀ z, bxx8_coroutines (lNn L) T σ 38 a2 a3 a4 = some (.ok z) → z.1 = 1) := by
  have hl' : (38 : Int32) = Int32.ofNat (lB L) := by rw [hl]; rfl
  have tl := tag_L (N := lNn L) H (i := 1) (by decide)
  have tm := tag_M (N := lNn L) H (i := 1) (by decide) (by decide)
  have t := VV_t (arg_V H (i := 1) (by decide))
  unfold bxx8_coroutines mm_ofThreads
  rw [if_pos (show (38 : Int32) = 38 from rfl), if_pos (show (38 : Int32) = 38 from rfl)]
  rw [mm_isOf, tl.1, tm.1, bd_so, bd_so]
  dsimp only
  by_cases c : aT σ 1 = 6
  · have v := arg_V' H (i := 1) (by decide) (arg_n H (by rw [c]; decide))
    have c' : bT μ 1 = 5 := t.2.2.2.2.1.mp c
    rw [c, c'] at v
    obtain ⟨fn, e⟩ := VV_fun v
    rw [e] at v
    rw [if_pos c, if_pos c', tl.2, bd_so, gd_z1, bd_so]
    dsimp only
    rw [unless_1 (L_227 H), bd_so]
    simp only [sF_fold, L_227 H, if_true]
    rw [create_38, tm.2, bd_so, e, h_ll]
    dsimp only
    rcases thread_L (α := Int32 × mS) E H v (f := fun z9 => bx (xx8_give (lNn L) z9.2 7 (Int32.toInt64 z9.1)) (fun z12 => xx8_coroutines_b118 (lNn L) T z12)) (k' := fun z2 => if 0 ≤ z2.1 then bd (mm_giveValue (lNn L) z2.2 6 (Int32.toInt64 z2.1)) (fun z5 => some z5) else some z2.2) (fun z hz => ⟨z, if_neg (show ¬ (0 : Int32) ≤ -1 by decide), mf_rfl⟩) with ⟨a, b, τ, τm, o1, o2, a0, b0, H1⟩ | OE1
    · have vt : VV (wAddC w a b) 7 (Int32.toInt64 a) 6 (Int32.toInt64 b) := .inr (.inr (.inr (.inr (.inr (.inr (.inr (.inl ⟨rfl, rfl, a, b, rfl, rfl, .inl wAddC_mem⟩)))))))
      obtain ⟨τ', τm', b1, b2, b3, _⟩ := give_L (N := lNn L) H1 (by decide) vt
      rw [o1, o2, bx_so, bd_so]
      dsimp only
      rw [if_pos b0.1, xx8_give, b1, b2, bx_so, bx_so, bd_so, bd_so, xx8_coroutines_b118, gd_z1, bx_so, mm_ofThreads_202]
      refine ⟨.inl ⟨_, _, _, _, rfl, rfl, wAddC_le, b3⟩, fun z hz => ?_⟩
      cases hz; rfl
    · refine ⟨.inr (OEL_bx (OEL_bd OE1 (fun z _ => rfl) (fun z _ => ⟨z, rfl, mf_rfl⟩))), fun z hz => ?_⟩
      cases q : xx5_make (lNn L) σ 6 (aV σ 1) with
      | none => rw [q] at hz; exact nomatch hz
      | some y =>
        rw [q] at hz
        cases y with
        | error e => exact nomatch hz
        | ok y =>
          rw [bx_so] at hz
          cases q2 : xx6_giveOne (lNn L) y.2 7 (Int32.toInt64 y.1) with
          | none => rw [xx8_give, q2] at hz; exact nomatch hz
          | some u =>
            rw [xx8_give, q2] at hz
            cases u with
            | error e => exact nomatch hz
            | ok u =>
              rw [bx_so, bx_so, xx8_coroutines_b118, gd_z1] at hz
              cases hz; rfl
  · rw [if_neg c, if_neg (fun q => c (t.2.2.2.2.1.mpr q)), bd_bd]
    refine ⟨.inr (OEL_bx (bad_L E H hl' (fun z => ⟨md_pi z 227 1, ?_, u227⟩))), fun z hz => ?_⟩
    · simp only [unless_0, bd_so, bx_so, bd_bd, lt, gd_z1, gd_z0, sF_fold, sF_pi, if_true, i10, if_false, ite_true, ite_false, mm_ofThreads_202]
    · cases q : xx8_bad (lNn L) σ 1 with
      | none => rw [q] at hz; exact nomatch hz
      | some y => rw [q] at hz; cases y <;> exact nomatch hz
theorem wrap_x {N : Nat} {T : ty_xx6_begin} {σ : mS} {a2 a3 a4 : Int32} : bxx8_coroutines N T σ 42 a2 a3 a4 = bd (xx8_tag N σ 1) (fun z21 => if z21.1 = 6 then bd (xx8_value N z21.2 1) (fun z22 => bx (xx5_make N z22.2 6 z22.1) (fun z23 => bx (xx3_function N z23.2 (-1 - z23.1) 0) (fun z24 => bx (xx8_give N z24.2 6 (Int32.toInt64 z24.1)) (fun z25 => xx8_coroutines_b118 N T z25)))) else bx (xx8_bad N z21.2 1) (fun z27 => some (Except.error (z27.1, z27.2)))) := rfl
theorem wrap_m {N : Nat} {μ : mS} : mm_ofThreads N μ 42 = bd (mm_isOf N μ 1 5 42) (fun z17 => bd (mm_unless N z17.2 z17.1) (fun z18 => if sF z18 227 = 0 then bd (mm_create N z18 42) (fun z19 => mm_ofThreads_202 N z19) else mm_ofThreads_202 N z18)) := rfl
theorem ok1_118 {N : Nat} {T : ty_xx6_begin} {o : Option (Except (Nat × mS) mS)} {z : Int32 × mS} (h : bx o (fun x => xx8_coroutines_b118 N T x) = some (.ok z)) : z.1 = 1 := by
  cases o with
  | none => exact nomatch h
  | some u =>
    cases u with
    | error e => exact nomatch h
    | ok u =>
      rw [bx_so, xx8_coroutines_b118, gd_z1] at h
      cases h; rfl
theorem ok1_bx {α : Type} {o : Option (Except (Nat × mS) α)} {f : α → Option (Except (Nat × mS) (Int32 × mS))} (hf : ∀ x z, f x = some (.ok z) → z.1 = 1) {z : Int32 × mS} (h : bx o f = some (.ok z)) : z.1 = 1 := by
  cases o with
  | none => exact nomatch h
  | some u =>
    cases u with
    | error e => exact nomatch h
    | ok u => exact hf u z h
theorem lib_wrap {L : LQ} (E : EVok (lE L)) {w : WD} {σ μ : mS} {T : ty_xx6_begin} {a2 a3 a4 : Int32} (H : LC L w 0 σ μ) (hl : lB L = 42) : LO L w (bx (bxx8_coroutines (lNn L) T σ 42 a2 a3 a4) (fun z => some (.ok z.2))) (mm_ofThreads (lNn L) μ 42) ∧ (∀ z, bxx8_coroutines (lNn L) T σ 42 a2 a3 a4 = some (.ok z) → z.1 = 1) := by
  have hl' : (42 : Int32) = Int32.ofNat (lB L) := by rw [hl]; rfl
  have tl := tag_L (N := lNn L) H (i := 1) (by decide)
  have tm := tag_M (N := lNn L) H (i := 1) (by decide) (by decide)
  have t := VV_t (arg_V H (i := 1) (by decide))
  rw [wrap_x, wrap_m, mm_isOf, tl.1, tm.1, bd_so, bd_so]
  dsimp only
  by_cases c : aT σ 1 = 6
  · have v := arg_V' H (i := 1) (by decide) (arg_n H (by rw [c]; decide))
    have c' : bT μ 1 = 5 := t.2.2.2.2.1.mp c
    rw [c, c'] at v
    obtain ⟨fn, e⟩ := VV_fun v
    rw [e] at v
    rw [if_pos c, if_pos c', tl.2, bd_so, gd_z1, bd_so]
    dsimp only
    rw [unless_1 (L_227 H), bd_so]
    simp only [L_227 H, if_true]
    rw [create_42, tm.2, bd_so, e, h_ll]
    dsimp only
    refine ⟨?_, fun z hz => ok1_bx (fun x z h => ok1_bx (fun x z h => ok1_118 h) h) hz⟩
    rcases thread_L (α := Int32 × mS) E H v (f := fun z23 => bx (xx3_function (lNn L) z23.2 (-1 - z23.1) 0) (fun z24 => bx (xx8_give (lNn L) z24.2 6 (Int32.toInt64 z24.1)) (fun z25 => xx8_coroutines_b118 (lNn L) T z25))) (k' := fun z2 => if 0 ≤ z2.1 then bd (mm_makeFunction (lNn L) z2.2 (-1 - z2.1) 0) (fun z3 => if z3.1 < 0 then mm_create_51 (lNn L) z3.2 else bd (mm_giveValue (lNn L) z3.2 5 (Int32.toInt64 z3.1)) (fun z4 => mm_create_51 (lNn L) z4)) else some z2.2) (fun z hz => ⟨z, if_neg (show ¬ (0 : Int32) ≤ -1 by decide), mf_rfl⟩) with ⟨a, b, τ, τm, o1, o2, a0, b0, H1⟩ | OE1
    · rw [o1, o2, bx_so, bd_so]
      dsimp only
      rw [if_pos b0.1]
      rcases resumer_L (α := Int32 × mS) H1 wAddC_mem (f := fun z24 => bx (xx8_give (lNn L) z24.2 6 (Int32.toInt64 z24.1)) (fun z25 => xx8_coroutines_b118 (lNn L) T z25)) (k' := fun z3 => if z3.1 < 0 then mm_create_51 (lNn L) z3.2 else bd (mm_giveValue (lNn L) z3.2 5 (Int32.toInt64 z3.1)) (fun z4 => mm_create_51 (lNn L) z4)) (fun z hz => ⟨z, if_pos (show (-1 : Int32) < 0 by decide), mf_rfl⟩) with ⟨x, y, τ1, τm1, p1, p2, y0, H2⟩ | OE2
      · have vt : VV (wAddF (wAddC w a b) x y) 6 (Int32.toInt64 x) 5 (Int32.toInt64 y) := .inr (.inr (.inr (.inr (.inr (.inr (.inl ⟨rfl, rfl, x, y, rfl, rfl, .inl (List.mem_append.mpr (.inr (List.mem_singleton.mpr rfl)))⟩))))))
        obtain ⟨τ', τm', b1, b2, b3, _⟩ := give_L (N := lNn L) H2 (by decide) vt
        rw [p1, p2, bx_so, bd_so]
        dsimp only
        rw [if_neg (Int32.not_lt.mpr y0), xx8_give, b1, b2, bx_so, bx_so, bd_so, mm_create_51, bd_so, xx8_coroutines_b118, gd_z1, bx_so, mm_ofThreads_202]
        exact .inl ⟨_, _, _, _, rfl, rfl, wle_tr wAddC_le wAddF_le, b3⟩
      · exact .inr (OEL_bx (OEL_bd (OEL_wl OE2 wAddC_le) (fun z _ => rfl) (fun z _ => ⟨z, rfl, mf_rfl⟩)))
    · exact .inr (OEL_bx (OEL_bd OE1 (fun z _ => rfl) (fun z _ => ⟨z, rfl, mf_rfl⟩)))
  · rw [if_neg c, if_neg (fun q => c (t.2.2.2.2.1.mpr q)), bd_bd]
    refine ⟨.inr (OEL_bx (bad_L E H hl' (fun z => ⟨md_pi z 227 1, ?_, u227⟩))), fun z hz => ?_⟩
    · simp only [unless_0, bd_so, bx_so, bd_bd, lt, gd_z1, gd_z0, sF_fold, sF_pi, if_true, i10, if_false, ite_true, ite_false, mm_ofThreads_202]
    · cases q : xx8_bad (lNn L) σ 1 with
      | none => rw [q] at hz; exact nomatch hz
      | some y => rw [q] at hz; cases y <;> exact nomatch hz
