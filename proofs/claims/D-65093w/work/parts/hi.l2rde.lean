/-! LAYER 2: the two readers: expressions, lists of them -/
def EXx (N : Nat) (n : Int32) (t : Int32 → Int32) (A : Nat → Int) (o : Nat) : Prop := ∀ (dx dm : Nat) (w : WD) (p e : Int32) (c : Int) (σ μ : mS), 20 * o + 31 ≤ dx → 14 * o + 9 ≤ dm → PS n t A w p e o c σ μ → c ≤ 400 → tF μ 133 ≤ 12 * (40 - o) → ∃ r σ' μ', (rc_xx10_arguments N dx).2.2.2.2.1 σ = some (r, σ') ∧ (rc_expression N dm).2.2.2.2.2.2.1 μ = some μ' ∧ m_fr fPX σ σ' ∧ m_fr fPM μ μ' ∧ (FLw n t w (kfo o) σ' μ' ∨ ∃ p', GX N n t A w o 32 c p p' σ μ r σ' μ')
theorem expr_2 {N : Nat} (hN : BIG ≤ N) {n : Int32} {t : Int32 → Int32} {A : Nat → Int} {o : Nat} (C : CEx N n t A o) : EXx N n t A o := by
  intro dx dm w p e c σ μ hdx hdm h hc h133
  have pn := PS_pn h
  have i8 : 1000000 ≤ N := Nat.le_trans (by decide) hN
  obtain ⟨dx, rfl⟩ : ∃ d, dx = d + 1 := ⟨dx - 1, by omega⟩
  obtain ⟨dm, rfl⟩ : ∃ d, dm = d + 1 := ⟨dm - 1, by omega⟩
  obtain ⟨M, hM⟩ : ∃ M, N = M + 1 := ⟨N - 1, by omega⟩
  have h0 : 0 ≤ tF μ 133 := h.2.2.2.2.2.1.2.2.2.2.2.2.2.2.1
  obtain ⟨r, σ', x, fx, res⟩ := C 0 dx dm M N w p e c σ μ (sF μ 133) (by omega) (by omega) (by omega) h hc h0 ⟨Int32.le_refl _, fun q => absurd (Int32.le_refl _) q⟩ (by omega) (by omega) (by omega)
  have y : (rc_expression N (dm + 1)).2.2.2.2.2.2.1 μ = mm_expression_18 N (rc_expression N dm) (mm_expression_7 N (rc_expression N dm) M) N (sF μ 133) μ := by
    show mb_expression N (rc_expression N dm) μ = _
    rw [mb_expression, lt_e, show μ.1 133 = sF μ 133 from rfl]
    have z : ∀ K, K = M + 1 → mm_expression_7 N (rc_expression N dm) K (sF μ 133) 1 μ = mm_expression_18 N (rc_expression N dm) (mm_expression_7 N (rc_expression N dm) M) N (sF μ 133) μ := fun K hK => by rw [hK]; exact e7_n h.2.1.2
    exact z N hM
  have x' : (rc_xx10_arguments N (dx + 1)).2.2.2.2.1 σ = some (r, σ') := by
    show bxx10_expression N (rc_xx10_arguments N dx) σ = _
    have x2 : (rc_xx10_arguments N dx).2.2.2.2.2.1 σ 0 = some (r, σ') := x
    rw [bxx10_expression, x2, bd_so]
  rcases res with ⟨μ', ye, fm, fl⟩ | ⟨μ', p', f', h', ye, fm, gx, b0, hf', hh'⟩
  · exact ⟨r, σ', μ', x', y.trans ye, fx, fm, .inl fl⟩
  · have gx0 := gx
    obtain ⟨w1, e1, ww, ps, ⟨kp, _⟩, _, _, pp, _⟩ := gx
    have pn' := PS_pn ps
    have k : sF μ' 133 = sF μ 133 := kp.1.2.2.1
    obtain ⟨h', rfl⟩ : ∃ i, h' = i + 1 := ⟨h' - 1, by unfold tF at hh'; rw [k] at hh'; omega⟩
    obtain ⟨f', rfl⟩ : ∃ i, f' = i + 1 := ⟨f' - 1, by omega⟩
    refine ⟨r, σ', μ', x', ?_, fx, fm, .inr ⟨p', gx0⟩⟩
    rw [y, ye, mm_expression_84, if_pos (show μ'.1 67 = 0 from ps.2.1.2), if_pos (show μ'.1 133 ≤ sF μ 133 from by rw [show μ'.1 133 = sF μ' 133 from rfl, k]; exact Int32.le_refl _), mm_expression_124, if_pos (show bdm (sF μ' 60) ≤ 0 from b0), mm_expression_133, if_pos rfl, mm_expression_149, mm_expression_7, if_pos rfl]
    rfl
/-- a list was read on both sides -/
def GXL (N : Nat) (n : Int32) (t : Int32 → Int32) (A : Nat → Int) (w : WD) (o : Nat) (c : Int) (p p' most hd : Int32) (σ μ : mS) (r : Int32) (σ' μ' : mS) : Prop := ∃ w' e', wx w w' ∧ PS n t A w' p' e' o (c - 8) σ' μ' ∧ (KPL μ μ' ∧ sF μ' 97 = sF μ 97 ∧ KQ μ') ∧ (sF σ 584 ≤ r ∧ r < sF σ' 584) ∧ KX σ σ' (-1) ∧ p.toInt < p'.toInt ∧ ∀ W T, wxT A w' W T → AG σ σ' (-1) T → EMR N W T 2 o 0 r [most, hd] μ μ'
def ESx (N : Nat) (n : Int32) (t : Int32 → Int32) (A : Nat → Int) (o : Nat) : Prop := ∀ (dx dm : Nat) (w : WD) (p e most : Int32) (c : Int) (σ μ : mS), 20 * o + 32 ≤ dx → 14 * o + 10 ≤ dm → PS n t A w p e o c σ μ → c ≤ 400 → tF μ 133 ≤ 12 * (40 - o) → ∃ r hd σ' μ', (rc_xx10_arguments N dx).2.2.2.2.2.2.1 σ = some (r, σ') ∧ (rc_expression N dm).2.2.2.2.2.2.2.1 μ most = some (hd, μ') ∧ m_fr fPX σ σ' ∧ m_fr fPM μ μ' ∧ (FLw n t w (kfo o) σ' μ' ∨ ∃ p', GXL N n t A w o c p p' most hd σ μ r σ' μ')
def drp (N : Nat) (ν : mS) : Option mS := bd (mm_higher N ν (-1)) (fun z => em N 41 (hgt z) 0 0 0 z)
theorem drp_o {N : Nat} {σ : mS} (h : RO 1 σ) : OPo 1 σ (drp N σ) := OP_bd (j := 0) (k := 1) h (hi_o h) (fun τ _ q => em_o q)
theorem es_lp {N : Nat} (hN : BIG ≤ N) {n : Int32} {t : Int32 → Int32} {A : Nat → Int} {o dx dm : Nat} (E : EXx N n t A o) (hdx : 20 * o + 31 ≤ dx) (hdm : 14 * o + 9 ≤ dm) {first most : Int32} : ∀ (j i : Nat) (last many h : Int32) (w : WD) (p e : Int32) (c : Int) (σ μ : mS), PS n t A w p e o c σ μ → c ≤ 400 → tF μ 133 ≤ 12 * (40 - o) → (0 ≤ last ∧ last < sF σ 584 ∧ nX σ last = -1) → KQ μ → n.toInt - p.toInt < (j : Int) → n.toInt - p.toInt < (i : Int) → ∃ hd σ' μ', xx10_expressions_b9 N (rc_xx10_arguments N dx) j first last many σ = some (first, σ') ∧ mm_expressions_8 N (rc_expression N dm) i most many h μ = some (hd, μ') ∧ m_fr fPX σ σ' ∧ m_fr fPM μ μ' ∧ (FLw n t w (kfo o) σ' μ' ∨ ∃ w' p' e', wx w w' ∧ PS n t A w' p' e' o c σ' μ' ∧ (KPL μ μ' ∧ sF μ' 97 = sF μ 97 ∧ KQ μ') ∧ KX σ σ' last ∧ p.toInt ≤ p'.toInt ∧ ∀ W T, wxT A w' W T → AG σ σ' (-1) T → nX T last = nX σ' last → EMR N W T 1 o 0 last [most, h, hd] μ μ') := by
  intro j
  induction j with
  | zero =>
    intro i last many h w p e c σ μ hp _ _ _ _ hj _
    have := PS_pn hp
    omega
  | succ j ih =>
    intro i last many h w p e c σ μ hp hc h133 ⟨l0, l1, l2⟩ kq hj hi
    have pn := PS_pn hp
    have tk := PS_tk hp
    have q := PS_584 hp
    obtain ⟨i, rfl⟩ : ∃ k, i = k + 1 := ⟨i - 1, by omega⟩
    rw [xx10_expressions_b9, mm_expressions_8, if_pos (show μ.1 67 = 0 from hp.2.1.2)]
    by_cases c40 : sF σ 707 = 40
    · rw [is_y hp.2.1.1 c40, sg_y (tk_y tk c40 (show kmp 40 = 144 by decide)) (by decide), bd_so, bd_so]
      dsimp only
      rw [if_neg n10, if_neg n10]
      by_cases m40 : many = 40
      · rw [if_pos m40, if_pos m40, fail_x hp.2.1.1, fail_m hp.2.1.2, bd_so, bd_so]
        exact ⟨h, flX σ, flM μ, rfl, rfl, px_F flX_fr, pm_F flM_fr, .inl (FLw_up (flw hp) wx_rfl (by unfold kfo; omega))⟩
      rw [if_neg m40, if_neg m40]
      obtain ⟨μ1, ev, fv, pv⟩ := PS_Op hp (value_o (N := N) (PS_RO hp 1 (by omega))) (by omega) (by omega)
      rw [ev, bd_so]
      -- a value too many is held no more
      have dr : ∃ μ2 h2, (if h ≤ most then mm_expressions_72 N (rc_expression N dm) (mm_expressions_8 N (rc_expression N dm) i) most many h μ1 else bd (mm_higher N μ1 (-1)) (fun z7 => gd (inB (z7.1 85) 48) (bd (mm_emit N z7 41 (z7.2.2.1 86 (z7.1 85).toNatClampNeg) 0 0 0) (fun z8 => lt (h + (-1)) (fun x9 : Int32 => mm_expressions_72 N (rc_expression N dm) (mm_expressions_8 N (rc_expression N dm) i) most many x9 z8.2))))) = mm_expressions_72 N (rc_expression N dm) (mm_expressions_8 N (rc_expression N dm) i) most many h2 μ2 ∧ m_fr fOp μ1 μ2 ∧ PS n t A w p e o (c + 1 + 1) σ μ2 ∧ ((h ≤ most ∧ h2 = h ∧ μ2 = μ1) ∨ (most < h ∧ h2 = h + (-1) ∧ drp N μ1 = some μ2)) := by
        by_cases hm : h ≤ most
        · rw [if_pos hm]
          exact ⟨μ1, h, rfl, mf_rfl, PS_up pv (by omega) (by omega), .inl ⟨hm, rfl, rfl⟩⟩
        · rw [if_neg hm]
          have ro := PS_RO pv 1 (by omega)
          obtain ⟨μ2, ed, fd, pd⟩ := PS_Op pv (drp_o (N := N) ro) (by omega) (by omega)
          refine ⟨μ2, h + (-1), ?_, fd, pd, .inr ⟨Int32.not_le.mp hm, rfl, ed⟩⟩
          obtain ⟨ν, e1, f1, _⟩ := hi_o (N := N) (k := -1) ro
          rw [drp, e1, bd_so, em] at ed
          rw [e1, bd_so, gd_of (show inB (ν.1 85) 48 = true from by rw [show ν.1 85 = sF μ1 85 from mf_F f1 rfl]; exact RO_85 ro)]
          rw [show ν.2.2.1 86 (ν.1 85).toNatClampNeg = hgt ν from rfl]
          cases hem : mm_emit N ν 41 (hgt ν) 0 0 0 with
          | none => rw [hem] at ed; exact nomatch ed
          | some z =>
            rw [hem, bd_so] at ed
            cases ed
            rw [bd_so, lt_e]
      obtain ⟨μ2, h2, ye, fd, pd, cs⟩ := dr
      rw [ye, mm_expressions_72]
      obtain ⟨σ3, μ3, p3, e3, r1, r2, ps3, pp, _, _, f3, g3⟩ := nxp hN pd (by rw [c40]; decide) (c' := c - 18) (.inr (by omega)) (by omega)
      rw [r1, r2, bd_so, bd_so]
      have t133 : tF μ3 133 = tF μ 133 := by unfold tF; rw [mf_F g3 rfl, mf_F fd rfl, mf_F fv rfl]
      obtain ⟨r, σ4, μ4, x4, y4, fx4, fm4, res⟩ := E dx dm w p3 e3 (c - 18) σ3 μ3 hdx hdm ps3 (by omega) (by rw [t133]; exact h133)
      rw [x4, y4, bd_so, bd_so]
      dsimp only
      have gl : inB last 13000 = true := tI_in (tI_le.mp l0) (by
        have a := tI_lt.mp l1
        have b := hp.2.2.2.2.1.1.2
        have z := hp.2.2.2.2.2.2
        unfold tF at b
        omega)
      have pm3 : m_fr fPM μ μ3 := mf_tr (pm_O (mf_tr fv fd)) (pm_T g3)
      rcases res with fl | ⟨p4, gx⟩
      · have ff := FLw_1 fl
        obtain ⟨j, rfl⟩ : ∃ k, j = k + 1 := ⟨j - 1, by have := PS_pn ps3; omega⟩
        obtain ⟨i, rfl⟩ : ∃ k, i = k + 1 := ⟨i - 1, by have := PS_pn ps3; omega⟩
        refine ⟨h2 + 1, σ4, μ4, ?_, ?_, mf_tr (px_T f3) fx4, mf_tr pm3 fm4, .inl (FLw_up fl wx_rfl (Int.le_refl _))⟩
        · rw [if_neg (show ¬ σ4.1 646 = 0 from by rw [show σ4.1 646 = 1 from ff.1]; decide), xx10_expressions_b61, lt_e, xx10_expressions_b9, is_f ff.1, bd_so]
          dsimp only
          rw [if_pos rfl]
        · rw [lt_e, lt_e, mm_expressions_8, if_neg (show ¬ μ4.1 67 = 0 from by rw [show μ4.1 67 = 1 from ff.2]; decide)]
          rfl
      · obtain ⟨w4, e4, ww4, ps4, ⟨kp4, k97, kq4⟩, ⟨ra, rb, rx⟩, kx4, pp4, em4⟩ := gx
        have kx3 : ∀ r, KX σ σ3 r := fun r => KX_fr f3 T_KP
        have lr : last < r := Int32.lt_of_lt_of_le (Int32.lt_of_lt_of_le l1 (kx3 (-1)).1.1) ra
        have r0 : 0 ≤ r := Int32.le_of_lt (Int32.lt_of_le_of_lt l0 lr)
        have ne : last ≠ r := fun z => by rw [z] at lr; exact Int32.lt_irrefl lr
        have ps5 : PS n t A w4 p4 e4 o (c - 18 - 8) (md_ai σ4 583 last.toNatClampNeg r) μ4 := PS_ai ps4 rfl
        have rx5 : nX (md_ai σ4 583 last.toNatClampNeg r) r = -1 := by
          unfold nX
          rw [sI_ai l0 r0, if_neg (fun z => ne z.2.symm)]
          exact rx
        have k133 : tF μ4 133 ≤ 12 * (40 - o) := by unfold tF; rw [kp4.1.2.2.1]; unfold tF at t133 h133; omega
        obtain ⟨hd, σ', μ', x', y', fx', fm', res'⟩ := ih i r (many + 1) (h2 + 1) w4 p4 e4 (c - 18 - 8) (md_ai σ4 583 last.toNatClampNeg r) μ4 ps5 (by omega) k133 ⟨r0, rb, rx5⟩ kq4 (by omega) (by omega)
        have fx : m_fr fPX σ σ' := mf_tr (mf_tr (px_T f3) (mf_ai fx4 rfl)) fx'
        have fm : m_fr fPM μ μ' := mf_tr pm3 (mf_tr fm4 fm')
        refine ⟨hd, σ', μ', ?_, by rw [lt_e, lt_e]; exact y', fx, fm, ?_⟩
        · rw [if_pos (show σ4.1 646 = 0 from ps4.2.1.1), gd_of gl, lt_e, xx10_expressions_b61, lt_e]
          exact x'
        rcases res' with fl | ⟨w', p', e', ww', ps', ⟨kp', k97', kq'⟩, kx', pp', em'⟩
        · exact .inl (FLw_up fl ww4 (Int.le_refl _))
        right
        have f2 : m_fr fOP μ μ3 := mf_tr (op_O (mf_tr fv fd)) (op_P (ps_T g3))
        have kl3 : KPL μ μ3 := KPL_tr (KPL_fr (mf_tr fv fd) KLp_Op) (KPL_fr g3 KLp_T)
        have kxn : KX σ4 (md_ai σ4 583 last.toNatClampNeg r) last := KX_nx l0
        have kxa : KX σ (md_ai σ4 583 last.toNatClampNeg r) last := KX_tr (KX_tr (kx3 last) (KX_r kx4)) kxn
        refine ⟨w', p', e', wx_tr ww4 ww', PS_up ps' (by omega) (by omega), ⟨KPL_tr kl3 (KPL_tr kp4 kp'), by rw [k97', k97, mf_F f2 rfl], kq'⟩, KX_lo kxa kx' (Int32.le_trans (kx3 r).1.1 ra), by omega, fun W T hW hT nxl => ?_⟩
        have m1 : ∀ σx : mS, 0 ≤ sF σx 584 → (-1 : Int32) < sF σx 584 := fun σx z => Int32.lt_of_lt_of_le (by decide) z
        have s30 : 0 ≤ sF σ3 584 := Int32.le_trans q.1.1 (kx3 r).1.1
        have l5 : nX (md_ai σ4 583 last.toNatClampNeg r) last = r := sI_ai2
        have nl : nX T last = r := by
          rw [nxl, (kx'.2.1 last l0 (Int32.lt_of_lt_of_le l1 (Int32.le_trans (kx3 r).1.1 kx4.1.1))).2 ne]
          exact l5
        have subE : AG σ3 σ4 r T := AG_sb hT (kx3 r).1.1 (kx3 r).1.2 (KY_tr (KY_ai KY_rfl s30 l0 (Int32.lt_of_lt_of_le l1 (kx3 r).1.1) (by omega)) kx' s30 (Int32.le_trans q.2.2.1 (kx3 r).1.2) (.inl rfl)) (.inr (.inl (m1 _ s30)))
        have subL : AG (md_ai σ4 583 last.toNatClampNeg r) σ' (-1) T := AG_sb hT kxa.1.1 kxa.1.2 KY_rfl (.inl rfl)
        have nr : nX T r = nX σ' r := (hT.1 r (Int32.le_trans (kx3 r).1.1 ra) (Int32.lt_of_lt_of_le rb kx'.1.1)).2 (fun z => by rw [z] at r0; exact absurd r0 (by decide))
        have emE := em4 W T (wxT_tr ww' hW) subE
        have emL := em' W T hW subL nr
        have sl3 : m_fr slP μ2 μ3 := sl_T g3
        have rne : r ≠ -1 := fun z => by rw [z] at r0; exact absurd r0 (by decide)
        rcases cs with ⟨hm, hh, hmm⟩ | ⟨hm, hh, hmm⟩
        · subst hh; subst hmm
          exact ei_x1 o 0 last most h2 hd μ μ2 μ4 μ' (by rw [nl]; exact rne) hm (st_of mf_rfl ev) (EMR_sl sl3 (by rw [nl]; exact emE)) (by rw [nl]; exact emL)
        · subst hh
          exact ei_x2 o 0 last most h hd μ μ1 μ2 μ4 μ' (by rw [nl]; exact rne) hm (st_of mf_rfl ev) (st_of mf_rfl hmm) (EMR_sl sl3 (by rw [nl]; exact emE)) (by rw [nl]; exact emL)
    · rw [is_n hp.2.1.1 c40, sg_n (tk_n tk c40 (show kin 144 = 40 by decide)) (by decide), bd_so, bd_so]
      dsimp only
      rw [if_pos rfl, if_pos rfl]
      refine ⟨h, σ, μ, rfl, rfl, mf_rfl, mf_rfl, .inr ⟨w, p, e, wx_rfl, hp, ⟨KPL_rfl, rfl, kq⟩, KX_rfl, Int.le_refl _, fun W T hW hT nxl => ?_⟩⟩
      exact ei_x0 o 0 last most h μ μ (by rw [nxl]; exact l2) mf_rfl
theorem es_2 {N : Nat} (hN : BIG ≤ N) {n : Int32} {t : Int32 → Int32} {A : Nat → Int} {o : Nat} (E : EXx N n t A o) : ESx N n t A o := by
  intro dx dm w p e most c σ μ hdx hdm h hc h133
  have pn := PS_pn h
  have q := PS_584 h
  have i8 : 1000000 ≤ N := Nat.le_trans (by decide) hN
  obtain ⟨dx, rfl⟩ : ∃ d, dx = d + 1 := ⟨dx - 1, by omega⟩
  obtain ⟨dm, rfl⟩ : ∃ d, dm = d + 1 := ⟨dm - 1, by omega⟩
  obtain ⟨r, σ1, μ1, x, y, fx, fm, res⟩ := E dx dm w p e c σ μ (by omega) (by omega) h hc h133
  have hx : (rc_xx10_arguments N (dx + 1)).2.2.2.2.2.2.1 σ = xx10_expressions_b9 N (rc_xx10_arguments N dx) N r r 1 σ1 := by
    show bxx10_expressions N (rc_xx10_arguments N dx) σ = _
    rw [bxx10_expressions, x, bd_so]
  have hy : (rc_expression N (dm + 1)).2.2.2.2.2.2.2.1 μ most = mm_expressions_8 N (rc_expression N dm) N most 1 1 μ1 := by
    show mb_expressions N (rc_expression N dm) μ most = _
    rw [mb_expressions, y, bd_so]
  rw [hx, hy]
  rcases res with fl | ⟨p1, gx⟩
  · have ff := FLw_1 fl
    obtain ⟨M, hM⟩ : ∃ M, N = M + 1 := ⟨N - 1, by omega⟩
    have z1 : ∀ K, K = M + 1 → xx10_expressions_b9 N (rc_xx10_arguments N dx) K r r 1 σ1 = some (r, σ1) := fun K hK => by
      rw [hK, xx10_expressions_b9, is_f ff.1, bd_so]
      dsimp only
      rw [if_pos rfl]
    have z2 : ∀ K, K = M + 1 → mm_expressions_8 N (rc_expression N dm) K most 1 1 μ1 = some (1, μ1) := fun K hK => by
      rw [hK, mm_expressions_8, if_neg (show ¬ μ1.1 67 = 0 from by rw [show μ1.1 67 = 1 from ff.2]; decide)]
      rfl
    exact ⟨r, 1, σ1, μ1, z1 N hM, z2 N hM, fx, fm, .inl fl⟩
  · obtain ⟨w1, e1, ww, ps, ⟨kp, k97, kq⟩, ⟨ra, rb, rx⟩, kx, pp, em⟩ := gx
    have pn1 := PS_pn ps
    have r0 : 0 ≤ r := Int32.le_trans q.1.1 ra
    obtain ⟨hd, σ', μ', x', y', fx', fm', res'⟩ := es_lp hN E (first := r) (most := most) (dx := dx) (dm := dm) (by omega) (by omega) N N r 1 1 w1 p1 e1 (c - 8) σ1 μ1 ps (by omega) (by unfold tF; rw [kp.1.2.2.1]; exact h133) ⟨r0, rb, rx⟩ kq (by omega) (by omega)
    refine ⟨r, hd, σ', μ', x', y', mf_tr fx fx', mf_tr fm fm', ?_⟩
    rcases res' with fl | ⟨w', p', e', ww', ps', ⟨kp', k97', kq'⟩, kx', pp', em'⟩
    · exact .inl (FLw_up fl ww (Int.le_refl _))
    · right
      refine ⟨p', w', e', wx_tr ww ww', ps', ⟨KPL_tr kp kp', by rw [k97', k97], kq'⟩, ⟨ra, Int32.lt_of_lt_of_le rb kx'.1.1⟩, KX_lo kx kx' ra, by omega, fun W T hW hT => ?_⟩
      have rne : r ≠ -1 := fun z => by rw [z] at r0; exact absurd r0 (by decide)
      have sub1 : AG σ σ1 r T := AG_sb hT (Int32.le_refl _) (Int32.le_refl _) (KY_X kx' q.1.1 q.2.2.1) (.inr (.inl (Int32.lt_of_lt_of_le (by decide) q.1.1)))
      have sub2 : AG σ1 σ' (-1) T := AG_sb hT kx.1.1 kx.1.2 KY_rfl (.inl rfl)
      have nr : nX T r = nX σ' r := (hT.1 r ra (Int32.lt_of_lt_of_le rb kx'.1.1)).2 rne
      exact ei_list o 0 r most hd μ μ1 μ' rne (em W T (wxT_tr ww' hW) sub1) (em' W T hW sub2 nr)
