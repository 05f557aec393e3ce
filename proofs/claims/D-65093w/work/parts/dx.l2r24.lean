/-! LAYER 2: step rules: JOIN -/
/-- how long a text is, on the reference -/
theorem sz_m {w : WD} {σ μ : mS} (S : RS w σ μ) {tx : Int32} {vx vm : Int64} {l : List Int32} (v : VV w tx vx 3 vm) (ht : TXT σ tx vx l) : (0 ≤ vm.toInt32 ∧ vm.toInt32 < 42000) ∧ sI μ 3 vm.toInt32 = Int32.ofNat l.length := by
  have t4 : tx = 4 := (VV_t v).2.2.1.mpr rfl
  rw [t4] at v ht
  have st := VV_str v (.inl rfl)
  have gg := RS_gs S st
  have sz := (S.2.2.2.2.2.1 _ _ st).1
  have le : l = xL σ vx.toInt32 := by
    rcases ht with q | q | q | q | q | q
    case inr.inr.inr.inr.inl => exact q.2
    all_goals exact absurd q.1 (by decide)
  have s0 : 0 ≤ x_sz σ vx.toInt32 := gg.1.1.2.2.2.1
  have ln : (xL σ vx.toInt32).length = (x_sz σ vx.toInt32).toNatClampNeg := bL_len
  refine ⟨⟨gg.2.1.1, gg.2.1.2.1⟩, ?_⟩
  have : x_sz σ vx.toInt32 = Int32.ofNat (xL σ vx.toInt32).length := by rw [ln, oN_cl' s0]
  rw [le, ← this]
  exact sz.symm
theorem aside_m {N : Nat} (hN : BIG ≤ N) {w : WD} {σ μ : mS} {tx tm i : Int32} {vx vm : Int64} (H : TS w σ μ) (v : VV w tx vx tm vm) {l l0 : List Int32} (hl : TXT σ tx vx l) (hll : l.length ≤ 4000) (hb : bufL μ l0) (h0 : l0.length ≤ 4000) (i0 : 0 ≤ i) (i1 : i < 500000) (e1 : sI μ 141 i = tm) (e2 : sJ μ 142 i = vm) : ∃ τ, mm_putAside N μ i = some τ ∧ m_fr bK μ τ ∧ ((l0.length + l.length ≤ 4000 ∧ bufL τ (l0 ++ l)) ∨ (4000 < l0.length + l.length ∧ 4000 < sF τ 17)) := by
  have e1' : μ.2.2.1 141 i.toNatClampNeg = tm := e1
  have e2' : μ.2.2.2 142 i.toNatClampNeg = vm := e2
  have b17 : μ.1 17 = Int32.ofNat l0.length := hb.1
  obtain ⟨y, p1, p2, p3⟩ := putValue_m hN H v hl hb (by omega)
  have c4 : Int32.ofNat l0.length + Int32.ofNat l.length ≤ 4000 ↔ l0.length + l.length ≤ 4000 := by
    rw [oN_add, show (4000 : Int32) = Int32.ofNat 4000 from rfl, oN_le (by omega) (by omega)]
  have e65 : bd (mm_putValue N μ tm vm) (fun z1 => mm_putAside_65 N z1) = some y := by rw [p1, bd_so]; rfl
  have fin : ((l0.length + l.length ≤ 4000 ∧ bufL y (l0 ++ l)) ∨ (4000 < l0.length + l.length ∧ 4000 < sF y 17)) := by
    by_cases c : l0.length + l.length ≤ 4000
    · exact .inl ⟨c, p2⟩
    · refine .inr ⟨by omega, ?_⟩
      rw [p2.1, List.length_append, show (4000 : Int32) = Int32.ofNat 4000 from rfl, oN_lt (by omega) (by omega)]; omega
  rw [mm_putAside, gd_in (by decide) i0 i1, e1']
  by_cases c3 : tm = 3
  · rw [c3] at v
    obtain ⟨s1, s2⟩ := sz_m H.1 v hl
    have s2' : μ.2.2.1 3 vm.toInt32.toNatClampNeg = Int32.ofNat l.length := s2
    rw [if_pos c3, gd_in (by decide) i0 i1, e2', gd_in (by decide) s1.1 s1.2, s2', mm_putAside_26, b17]
    by_cases c : l0.length + l.length ≤ 4000
    · rw [if_pos (c4.mpr c), gd_in (by decide) i0 i1, gd_in (by decide) i0 i1, e1', e2', e65]
      exact ⟨y, rfl, p3, fin⟩
    · rw [if_neg (fun q => c (c4.mp q)), lt]
      exact ⟨md_pi μ 17 4001, rfl, mf_pi mf_rfl rfl, .inr ⟨by omega, by simp only [sF_pi, sF_pl, sF_ai, sF_al, sG_pi, sG_pl, sG_ai, sG_al, sI_pi, sI_pl, sI_al, sI_ai1, sI_ai2, sJ_pi, sJ_pl, sJ_ai, sJ_al1, sJ_al2, Nat.reduceEqDiff, if_true, if_false, ne_eq, not_false_eq_true, ite_true, ite_false]; decide⟩⟩
  · have n0 : Int32.ofNat l0.length + 0 ≤ 4000 := by
      rw [Int32.add_zero, show (4000 : Int32) = Int32.ofNat 4000 from rfl, oN_le (by omega) (by omega)]; exact h0
    rw [if_neg c3, mm_putAside_26, b17, if_pos n0, gd_in (by decide) i0 i1, gd_in (by decide) i0 i1, e1', e2', e65]
    exact ⟨y, rfl, p3, fin⟩
/-- JOIN -/
theorem r_join {e : EV} {w : WD} {xf : Int32 → List Int32} {c d : Int32} {rest : PL2} {f : Int32} {fl : List Int32} {g p q F n : Int32} {σ μ : mS} {M rk : Nat} {ρ0 : List Int32} {x y r live : Int32} (C : CXT e M F n rk) (hk : rk ≤ 2000000) (A : PT e w xf c d rest f fl (ρ0 ++ [x] ++ [y]) (-1) g p q F n σ μ) (z : eZ e rk g p q (ρ0 ++ [x] ++ [y]) (-1)) (ho : opx e p 50) (ha : acm e q 23) (hs : sI (eμ e) 71 q = 308) (ln : lin e p q) (h1 : nx e (p + 1) = r) (h2 : nx e (p + 2) = x) (h3 : nx e (p + 3) = y) (h4 : nx e (p + 4) = live) (x0 : 0 ≤ x) (y0 : 0 ≤ y) (ok : okr ρ0 r 1 (sI (eσ e) 261 g)) (V : lvS e g ρ0 live) (L : lo e rk g (p + 5) (q + 1) (ρ0 ++ [r]) (-1)) : Good e (M + 3000) σ μ := by
  obtain ⟨E, hM, Z, _, _, G, _, _⟩ := id C
  have hx := PT_x A ho (fun s => rfl)
  have S := PT_s A 5
  have LL := PT_LE (k := 0) A ho ln 5
  have hm := act_f A ha
  have two : ∀ μ : mS, mm_two (eN e) μ 308 = mm_join (eN e) μ (μ.1 143 - 2) (μ.1 143 - 1) := fun μ => by
    have e0 : mm_two (eN e) μ 308 = bd (mm_join (eN e) μ (μ.1 143 - 2) (μ.1 143 - 1)) (fun z16 => mm_two_340 (eN e) z16) := rfl
    rw [e0]; exact bd_me (fun z => rfl)
  rw [af_23, act_g A ha, mf_23, act_b, more_b, hs, two] at hm
  have h256 := fun i => xP_256 S.1 i
  rw [sf_sg (by decide), sgn_x (by decide) ho.1 h256, h1, h2, h3, h4, sgF, if_neg (by decide), if_pos rfl, sg269, bx_me (fun z => rfl)] at hx
  generalize xP σ f p 5 = τ at hx S h256 LL
  generalize actP μ (n - 1) q = τm at hm S LL
  have zk0 := zk_of Z z
  have zk1 : zk e g ρ0 := zk_l (zk_l zk0)
  obtain ⟨B, ⟨t0, t1, t2⟩, ⟨B0, B1, B2⟩, e0, e1, v0', v1'⟩ := top_2 S.1 zk0.1
  have bb := bnd3 B0 B2
  have A2 := PT_take S.1 (j := ρ0.length) (by rw [List.append_assoc, List.length_append]; omega) e0
  rw [List.append_assoc, List.take_left' rfl] at A2
  have S2 : ST e w xf c d rest f fl ρ0 (-1) g (p + 5) (q + 1) F n τ (md_pi τm 143 B) := ⟨A2, S.2⟩
  have vx := RV_V v0' x0
  have vy := RV_V v1' y0
  have xR := zk_reg zk0 (x := x) (by simp) x0
  have yR := zk_reg zk0 (x := y) (by simp) y0
  have tvx := VV_t vx
  have tvy := VV_t vy
  have wx := isW_e vx
  have wy := isW_e vy
  have e141 : ∀ i : Int32, τm.2.2.1 141 i.toNatClampNeg = sI τm 141 i := fun i => rfl
  have e142 : ∀ i : Int32, τm.2.2.2 142 i.toNatClampNeg = sJ τm 142 i := fun i => rfl
  rw [show τm.1 143 = sF τm 143 from rfl, t2, t1, mm_join, gd_in (by decide) bb.1.1 bb.1.2, e141, isW_m, bd_so, wx] at hm
  rw [xx6_join, (rd_r S x0 xR).1, bd_so, (rd_r S y0 yR).1, bd_so, isT_x, bd_so] at hx
  have hd : xx6_step (eN e) σ = xx6_join_b101 (eN e) r x y live (xt τ f x) (xt τ f y) τ → mm_act (eN e) μ = mm_join_24 (eN e) B (B + 1) τm → Good e (M + 3000) σ μ := by
    intro hx hm
    have ct : ctS (eS e) (sI (eσ e) 261 g) g (p + 5) (q + 1) ρ0 1 r 1 1 0 := .inr (.inr (.inl ⟨rfl, rfl, rfl, ok, lo_S hk L⟩))
    have e24 : mm_join_24 (eN e) B (B + 1) τm = mm_join_51 (eN e) B (if (if xt τ f x = 3 then (1 : Int32) else if xt τ f x = 4 then 1 else 0) = 0 then sI τm 141 B else sI τm 141 (B + 1)) τm := by
      rw [mm_join_24, gd_in (by decide) bb.1.1 bb.1.2, e141, isW_m, bd_so, wx]
      by_cases c0 : (if xt τ f x = 3 then (1 : Int32) else if xt τ f x = 4 then 1 else 0) = 0
      · rw [if_pos c0, if_pos c0, gd_in (by decide) bb.1.1 bb.1.2, e141]
      · rw [if_neg c0, if_neg c0, gd_in (by decide) bb.2.1.1 bb.2.1.2, e141]
    rw [e24, mm_join_51] at hm
    rw [xx6_join_b101] at hx
    rcases eh_2 (th := 0) C zk1 S2 LL (LV_S S2 V) B0 B2 x0 xR y0 yR vx vy t0 rfl rfl rfl rfl (k := 3) (by decide) ct with ⟨i1, i2⟩ | ⟨h, τ', ⟨h0, h1'⟩, i1, i2, G2⟩
    · have i1' : xx6_eitherHandler (eN e) τ x y 3 = some (-1, τ) := i1
      have i2' : mm_callHandler (eN e) τm B (τm.1 208) 0 = some (0, gt τm 0 0) := i2
      have S3 := ST_gt (c' := 0) (d' := 0) S2
      have UKx := UK_pi S3.1 (show LE τ (mff (gt τm 0 0)) f (n - 1) from LL)
      rw [i1', bd_so, if_pos rfl, isT_x, bd_so] at hx
      rw [i2', bd_so, if_pos rfl] at hm
      by_cases c0 : (if xt τ f x = 3 then (1 : Int32) else if xt τ f x = 4 then 1 else 0) = 0
      · rw [if_pos c0, xx6_join_b135] at hx
        rw [if_pos c0] at hm
        exact good_UO C A hx hm (UO_bd (faultT_UO E UKx vx (t := 20) (u := 29) (t' := 4) (u' := 10) (by decide) (by decide) tx_20 (by decide +kernel) (by decide) (by decide) tx_4 (by decide +kernel)) (fun z => rfl)) S.1.2.2.2.2.1 S3.1.2.2.2.2.2
      · rw [if_neg c0, xx6_join_b135] at hx
        rw [if_neg c0] at hm
        exact good_UO C A hx hm (UO_bd (faultT_UO E UKx vy (t := 20) (u := 29) (t' := 4) (u' := 10) (by decide) (by decide) tx_20 (by decide +kernel) (by decide) (by decide) tx_4 (by decide +kernel)) (fun z => rfl)) S.1.2.2.2.2.1 S3.1.2.2.2.2.2
    · have i1' : xx6_eitherHandler (eN e) τ x y 3 = some (h, τ) := i1
      have i2' : mm_callHandler (eN e) τm B (τm.1 208) 0 = bd (mm_call (eN e) τ' B 2 1 0) (fun z6 => gd (zB 1) (some ((1, z6) : Int32 × mS))) := i2
      have hne : ¬ h = -1 := fun q => by rw [q] at h0; exact absurd h0 (by decide)
      rw [i1', bd_so, if_neg hne, (rd_r S x0 xR).2, bd_so, (rd_r S y0 yR).2, bd_so] at hx
      rw [i2', kk_1 (fun z => by rw [if_neg n10]; rfl)] at hm
      exact good_G A (hx.trans (bx_me (fun z => rfl))) hm G2
  by_cases c0 : (if xt τ f x = 3 then (1 : Int32) else if xt τ f x = 4 then 1 else 0) = 0
  · rw [if_pos c0] at hx hm
    exact hd hx hm
  · rw [if_neg c0, isT_x, bd_so] at hx
    rw [if_neg c0, gd_in (by decide) bb.2.1.1 bb.2.1.2, e141, isW_m, bd_so, wy] at hm
    by_cases c1 : (if xt τ f y = 3 then (1 : Int32) else if xt τ f y = 4 then 1 else 0) = 0
    · rw [if_pos c1] at hx hm
      exact hd hx hm
    · have HT := ME_TS S.1.1.1.1
      obtain ⟨lx, hlx, lx4⟩ := VV_ex HT vx
      obtain ⟨ly, hly, ly4⟩ := VV_ex HT vy
      obtain ⟨τ1, x1, x2, x3⟩ := text_L (p := 0) (EV_N E) (σ := τ) vB_407 (by decide) (fun h => x_sv_T HT.1 vx h) (tw_1 c0) hlx (by omega)
      have S1 := ST_u S (xw_407 x3) (mf_rfl (σ := τm))
      have HT1 := ME_TS S1.1.1.1.1
      obtain ⟨τ2, y1, y2, y3⟩ := text_L (p := lx.length) (EV_N E) (σ := τ1) (v := 407) (L := 8300) vB_407 (by decide) (fun h => x_sv_T HT1.1 vy h) (tw_1 c1) (TXT_fr hly (xw_407 x3) (fun k hk => by
        have : k ≠ 407 := by omega
        simpa using this)) (by omega)
      have x1' : xx6_text (eN e) τ (xt τ f x) (xv τ f x) 407 0 = some (Int32.ofNat lx.length, τ1) := by
        have := x1
        rw [Nat.zero_add] at this
        exact this
      have m0 : m_fr bK τm (md_pi τm 17 0) := mf_pi mf_rfl rfl
      obtain ⟨μ1, p1, p2, p3⟩ := putValue_m (EV_N E) (TS_fr HT (mf_rfl (σ := τ)) m0 (fun k _ => rfl) (fun k hk => bK_f (by omega))) vx hlx bufL_0 (by decide)
      rw [List.nil_append] at p2
      have fm1 : m_fr bK τm μ1 := mf_tr m0 p3
      have b17 : μ1.1 17 = Int32.ofNat lx.length := p2.1
      have n4 : ¬ (4000 : Int32) < Int32.ofNat lx.length := fun q => by
        rw [show (4000 : Int32) = Int32.ofNat 4000 from rfl, oN_lt (by omega) (by omega)] at q; omega
      obtain ⟨μ2, q1, q2, q3⟩ := aside_m (EV_N E) (i := B + 1) (TS_fr HT (mf_rfl (σ := τ)) fm1 (fun k _ => rfl) (fun k hk => bK_f (by omega))) vy hly ly4 p2 lx4 bb.2.1.1 bb.2.1.2 (mf_I fm1 rfl) (mf_J fm1 rfl)
      have fm2 : m_fr bK τm μ2 := mf_tr fm1 q2
      have fx2 : m_fr (fun k => k == 407) τ τ2 := mf_tr (xw_407 x3) (xw_407 y3)
      have f0 : ∀ i : Int32, (md_pi τm 17 0).2.2.1 141 i.toNatClampNeg = sI τm 141 i := fun i => rfl
      have f1 : ∀ i : Int32, (md_pi τm 17 0).2.2.2 142 i.toNatClampNeg = sJ τm 142 i := fun i => rfl
      rw [if_neg c1, (rd_r S y0 yR).2, bd_so, (rd_r S x0 xR).2, bd_so, x1', bd_so, y1, bd_so] at hx
      rw [if_neg c1, lt, gd_in (by decide) bb.1.1 bb.1.2, gd_in (by decide) bb.1.1 bb.1.2, f0, f1, p1, bd_so, b17, if_neg n4, q1, bd_so, mm_join_113] at hm
      have LL2 : LE τ2 (mff μ2) f (n - 1) := LE_fr LL fx2 fm2 rfl rfl rfl
      rcases q3 with ⟨c4, b2⟩ | ⟨c4, b2⟩
      · have len : (lx ++ ly).length ≤ 4000 := by rw [List.length_append]; exact c4
        have hL : hasL (τ2.2.2.1 407) 0 (lx ++ ly) := hasL_app.mpr ⟨hasL_xw x2 y3 (by omega), by rw [Nat.zero_add]; exact y2⟩
        have S4 := ST_u S fx2 fm2
        have A5 := PT_u S2.1 fx2 (pi_cg (k := 143) (v := B) fm2)
        have S5 : ST e w xf c d rest f fl ρ0 (-1) g (p + 5) (q + 1) F n τ2 (md_pi μ2 143 B) := ⟨A5, S4.2⟩
        have cx : Int32.ofNat (lx.length + ly.length) ≤ 4000 := by
          rw [show (4000 : Int32) = Int32.ofNat 4000 from rfl, oN_le (by omega) (by omega)]; exact c4
        have cm : μ2.1 17 ≤ 4000 := by
          have : μ2.1 17 = Int32.ofNat (lx ++ ly).length := b2.1
          rw [this, List.length_append]; exact cx
        rw [if_pos cx] at hx
        rw [if_pos cm] at hm
        rcases make_S E S4 hL b2 len with ⟨o1, o2⟩ | ⟨a, b, υ, υm, o1, o2, b0, vs, S6, fr, frm⟩
        · rw [List.length_append] at o1
          refine good_UO C A hx hm (room_UO (PT_UK S4.1 LL2) (h := fun z => z) (by rw [o1]; rfl) (fun μ' hb => ⟨μ', ?_, mf_rfl⟩)) S4.1.2.2.2.2.1 S4.1.2.2.2.2.2
          rw [o2, bd_bd, hb, bd_so, bd_so, if_pos (show (-1 : Int32) < 0 from by decide)]; rfl
        · rw [List.length_append] at o1
          have T6 := PT_take S6.1 (j := ρ0.length) (t := B) (by rw [List.append_assoc, List.length_append]; omega) (by rw [e0, show mff υm (n - 1) 3 = mff τm (n - 1) 3 from (mf_I frm (k := 147) rfl).trans (mf_I fm2 rfl)])
          rw [List.append_assoc, List.take_left' rfl] at T6
          have S7 : ST e (wAddS w a b) xf c d rest f fl ρ0 (-1) g (p + 5) (q + 1) F n υ (md_pi υm 143 B) := ⟨T6, S6.2⟩
          obtain ⟨p1', p2', p3'⟩ := push_1 (N := eN e) (N' := eN e) S7 zk1 ok vs
          refine Good_2 A (hx.trans ?_) (hm.trans ?_) (GK_lo G p3'.1 L)
          · rw [o1, bx_so, p1', bd_so]
          · rw [o2, bd_so, if_neg (Int32.not_lt.mpr b0), lt, p2', bd_so]; rfl
      · have cx : ¬ Int32.ofNat (lx.length + ly.length) ≤ 4000 := fun q => by
          rw [show (4000 : Int32) = Int32.ofNat 4000 from rfl, oN_le (by omega) (by omega)] at q; omega
        rw [if_neg cx] at hx
        rw [if_neg (show ¬ μ2.1 17 ≤ 4000 from Int32.not_le.mpr b2)] at hm
        have S4 := ST_u S fx2 fm2
        exact good_UO C A hx hm (UO_bd (fault_UO E (PT_UK S4.1 LL2) (t := 19) (tm := 30) (by decide) (by decide) tx_19 (by decide +kernel)) (fun z => rfl)) S4.1.2.2.2.2.1 S4.1.2.2.2.2.2
