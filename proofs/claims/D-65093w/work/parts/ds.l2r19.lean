/-! LAYER 2: step rules: SAME, OTHER -/
/-- a truth turned round, on one side -/
theorem push_neg {e : EV} {w : WD} {xf : Int32 → List Int32} {c d : Int32} {rest : PL2} {f : Int32} {fl : List Int32} {ρ : List Int32} {g p q F n : Int32} {σ μ : mS} (S : ST e w xf c d rest f fl ρ (-1) g p q F n σ μ) (z : zk e g ρ) {r tx : Int32} {vm : Int64} (ok : okr ρ r 1 (sI (eσ e) 261 g)) (hv : (tx = 2 ∧ vm = 0) ∨ (tx = 1 ∧ vm = 1)) {N N' : Nat} : xx6_set N σ r tx 0 = some (xS σ (sI σ 347 f + r) tx 0) ∧ mm_push N' μ 1 vm = some (mPu μ 1 vm) ∧ ST e w xf c d rest f fl (ρ ++ [r]) (-2) g p q F n (xS σ (sI σ 347 f + r) tx 0) (mPu μ 1 vm) := by
  have t8 : 0 ≤ tx ∧ tx ≤ 8 := by rcases hv with ⟨rfl, _⟩ | ⟨rfl, _⟩ <;> exact ⟨by decide, by decide⟩
  obtain ⟨s1, S1, ⟨s2, s3⟩, s4⟩ := set_1 (N := N) (t := tx) (v := 0) S z ok t8.1 t8.2
  obtain ⟨h1, h2, h3, h4, h5⟩ := PT_at S1.1 z.1
  have bl := h5 ρ.length (by omega) 0 (by omega)
  rw [← h2] at bl
  have T := S1.1.1.2
  rw [S1.1.2.2.2.2.2] at T
  obtain ⟨T1, T2⟩ := TP_1 T
  have e3 : mff (mPu μ 1 vm) (n - 1) 3 = mff μ (n - 1) 3 := mf_I mPu_fr rfl
  have e143 : sF (mPu μ 1 vm) 143 = sF μ 143 + 1 := mPu_143
  refine ⟨s1, push_m bl.1.1 bl.1.2 (by decide) (by decide), PT_mk S1.1 xtc_rfl (mPu_y bl.1.1 bl.2.2.1) S1.1.2.2.1 ((mf_I mPu_fr rfl).trans h4) (.inr (.inl ⟨rfl, ρ, r, rfl, ok.1, ?_, ?_, s3, ?_, ?_⟩)), S1.2⟩
  · rw [e3]
    refine RG_cg T1 wle_rfl (fun _ _ _ => ⟨rfl, rfl⟩) (fun j hj => ?_)
    have b := h5 j (by omega) ρ.length (by omega)
    rw [← h2] at b
    rw [mPu_I bl.1.1 b.1.1, mPu_J bl.1.1 b.1.1, if_neg (fun q => by have := b.2.1.mp q; omega), if_neg (fun q => by have := b.2.1.mp q; omega)]
    exact ⟨rfl, rfl⟩
  · rw [e143, e3, h2, List.length_append, List.length_singleton]; exact b_p1
  · rw [e143, show sF μ 143 + 1 - 1 = sF μ 143 from by lia, mPu_I bl.1.1 bl.1.1, if_pos rfl]
  · rw [e143, show sF μ 143 + 1 - 1 = sF μ 143 from by lia, mPu_J bl.1.1 bl.1.1, if_pos rfl, s2]
    exact hv
/-- NOT, where the reference has turned the truth round already -/
theorem r_notx {e : EV} {w : WD} {xf : Int32 → List Int32} {c d : Int32} {rest : PL2} {f : Int32} {fl : List Int32} {ρ0 : List Int32} {x : Int32} {g p q F n : Int32} {σ μ : mS} (Z : ZRok e) {M rk : Nat} (G : GK e M F n rk) (A : PT e w xf c d rest f fl (ρ0 ++ [x]) (-2) g p q F n σ μ) (z : eZ e rk g p q (ρ0 ++ [x]) (-2)) (ho : opx e p 20) (h1 : nx e (p + 1) = x) (h2 : nx e (p + 2) = x) (x0 : 0 ≤ x) (ok : okr ρ0 x 1 (sI (eσ e) 261 g)) (L : lo e rk g (p + 3) q (ρ0 ++ [x]) (-1)) : Good e (M + 3000) σ μ := by
  have hx := PT_x A ho (fun s => rfl)
  have S := (PT_sx A 3).1
  have o := ops_1 ho.1.1 ho.1.2
  have h256 := fun i => xP_256 S.1 i
  rw [sf_20, gd_in (by decide) o.1.1 o.1.2, gd_in (by decide) o.2.1.1 o.2.1.2, h256 (p + 2), h2] at hx
  generalize xP σ f p 3 = τ at hx S h256
  have zk0 := zk_of Z z
  have xR := zk_reg zk0 mem_l x0
  have T := S.1.1.2
  rw [S.1.2.2.2.2.2] at T
  have hq := S.1.2.2.2.1
  rw [S.1.2.2.2.2.2] at hq
  rcases T with ⟨h, _⟩ | ⟨_, ρ1, r, er, rr0, T1, T2, T3, T4, T5⟩ | ⟨h, _⟩
  case inl => exact absurd h (by decide)
  case inr.inr => exact absurd h (by decide)
  obtain ⟨e1, e2⟩ := List.append_inj' er rfl
  have e2' : x = r := by simpa using e2
  subst e1
  subst e2'
  have N := (PT_N S.1).2.2.1
  have bl := pl_1 (j := ρ0.length) (k := 0) N.1 N.2 (by have := zk0.1; rw [List.length_append] at this; omega) (by omega)
  have e143 : sF μ 143 - 1 = mff μ (n - 1) 3 + Int32.ofNat ρ0.length := by rw [T2, List.length_append, List.length_singleton]; exact bl.2.2.2
  rw [(rd_r S x0 xR).1, bd_so, truth_x, bd_so] at hx
  have A0 : PT e w xf c d rest f fl ρ0 (-1) g (p + 3) q F n τ (md_pi μ 143 (sF μ 143 - 1)) := by
    refine PT_mk S.1 xtc_rfl m143_tc S.1.2.2.1 hq (.inl ⟨rfl, ?_, ?_⟩)
    · exact RG_cg T1 wle_rfl (fun _ _ _ => ⟨rfl, rfl⟩) (fun _ _ => ⟨rfl, rfl⟩)
    · simp only [sF_pi, sF_pl, sF_ai, sF_al, sG_pi, sG_pl, sG_ai, sG_al, sI_pi, sI_pl, sI_al, sI_ai1, sI_ai2, sJ_pi, sJ_pl, sJ_ai, sJ_al1, sJ_al2, Nat.reduceEqDiff, if_true, if_false, ne_eq, not_false_eq_true, ite_true, ite_false]
      exact e143
  have S0 : ST e w xf c d rest f fl ρ0 (-1) g (p + 3) q F n τ (md_pi μ 143 (sF μ 143 - 1)) := ⟨A0, S.2⟩
  have e411 : τ.1 410 = sI τ 347 f := S.2.1
  have key : ∀ t : Int32, (t = 1 ∨ t = 2) → VV w t 0 (sI μ 141 (sF μ 143 - 1)) (sJ μ 142 (sF μ 143 - 1)) → xx6_step (eN e) σ = bd (xx6_set (eN e) τ x t 0) (fun z => some (.ok z)) → Good e (M + 3000) σ μ := by
    intro t ht v hx
    have t8 : 0 ≤ t ∧ t ≤ 8 := by rcases ht with rfl | rfl <;> exact ⟨by decide, by decide⟩
    obtain ⟨s1, S1, ⟨s2, s3⟩, s4⟩ := set_1 (N := eN e) (t := t) (v := 0) S0 (zk_l zk0) ok t8.1 t8.2
    have T' := S1.1.1.2
    rw [S1.1.2.2.2.2.2] at T'
    have A1 : PT e w xf c d rest f fl (ρ0 ++ [x]) (-1) g (p + 3) q F n (xS τ (sI τ 347 f + x) t 0) μ := by
      refine PT_mk S1.1 xtc_rfl m143_bk S1.1.2.2.1 hq (.inl ⟨rfl, RG_app.mpr ⟨?_, RG_one.mpr (.inr (.inl ⟨x0, ?_⟩))⟩, T2⟩)
      · exact RG_cg (TP_1 T').1 wle_rfl (fun _ _ _ => ⟨rfl, rfl⟩) (fun _ _ => ⟨rfl, rfl⟩)
      · rw [s2, s3, ← e143]; exact v
    exact Good_x A (by rw [hx, s1, bd_so]) (GK_lo G A1 L)
  rcases T5 with ⟨t1, t2⟩ | ⟨t1, t2⟩
  · refine key 1 (.inl rfl) (by rw [T4, t2]; exact .inr (.inl ⟨rfl, rfl, rfl, rfl⟩)) ?_
    rw [hx, t1, if_neg (show ¬ (if (1 : Int32) < 2 then (1 : Int32) else 0) = 0 from by decide), xx6_step_b396, h256 (p + 1), h1, xx6_setTruth, if_pos rfl, xx6_setTruth_b11, bd_bd]
    exact bd_cg (fun z => rfl)
  · refine key 2 (.inr rfl) (by rw [T4, t2]; exact .inr (.inr (.inl ⟨rfl, rfl, rfl, rfl⟩))) ?_
    rw [hx, t1, if_pos (show (if (1 : Int32) < 1 then (1 : Int32) else 0) = 0 from by decide), xx6_step_b396, h256 (p + 1), h1, xx6_setTruth, if_neg n10, xx6_setTruth_b11, bd_bd]
    exact bd_cg (fun z => rfl)
/-- a truth on both sides -/
theorem truth_S {e : EV} {w : WD} {xf : Int32 → List Int32} {c d : Int32} {rest : PL2} {f : Int32} {fl : List Int32} {ρ : List Int32} {g p q F n : Int32} {σ μ : mS} {M rk : Nat} (G : GK e M F n rk) (S : ST e w xf c d rest f fl ρ (-1) g p q F n σ μ) (z : zk e g ρ) {r b b' s : Int32} (ok : okr ρ r 1 (sI (eσ e) 261 g)) (hb : b = 0 ∨ b = 1) (hs : (s = 303 ∧ b' = b) ∨ (s = 304 ∧ b' = 1 - b)) (L : (s = 303 ∧ lo e rk g p q (ρ ++ [r]) (-1)) ∨ (s = 304 ∧ lo e rk g p q (ρ ++ [r]) (-2))) {σ0 μ0 : mS} (h406 : sF σ0 406 = 0) (h178 : sF μ0 178 = 0) (hx : xx6_step (eN e) σ0 = bd (xx6_setTruth (eN e) σ r b) (fun z => some (.ok z))) (hm : mm_act (eN e) μ0 = mm_push (eN e) μ 1 (Int32.toInt64 b')) : Good e (M + 3000) σ0 μ0 := by
  have ex : xx6_setTruth (eN e) σ r b = xx6_set (eN e) σ r (if b = 1 then 2 else 1) 0 := by
    rcases hb with rfl | rfl
    · rw [xx6_setTruth, if_pos rfl, xx6_setTruth_b11, if_neg n01]; exact bd_me (fun z => rfl)
    · rw [xx6_setTruth, if_neg n10, xx6_setTruth_b11, if_pos rfl]; exact bd_me (fun z => rfl)
  rw [ex] at hx
  rcases L with ⟨c, L⟩ | ⟨c, L⟩
  · rcases hs with ⟨_, rfl⟩ | ⟨h, _⟩
    · obtain ⟨p1, p2, p3⟩ := push_1 (N := eN e) (N' := eN e) S z ok (VV_truth (w := w) hb)
      exact Good_mono (good_2 h406 h178 (hx.trans (by rw [p1, bd_so])) (hm.trans p2) (GK_lo G p3.1 L)) (by omega)
    · rw [c] at h; exact absurd h (by decide)
  · rcases hs with ⟨h, _⟩ | ⟨_, rfl⟩
    · rw [c] at h; exact absurd h (by decide)
    · obtain ⟨p1, p2, p3⟩ := push_neg (N := eN e) (N' := eN e) (tx := if b = 1 then 2 else 1) (vm := Int32.toInt64 (1 - b)) S z ok (by rcases hb with rfl | rfl <;> decide)
      exact Good_mono (good_2 h406 h178 (hx.trans (by rw [p1, bd_so])) (hm.trans p2) (GK_lo G p3.1 L)) (by omega)
/-- SAME -/
theorem r_same {e : EV} {w : WD} {xf : Int32 → List Int32} {c d : Int32} {rest : PL2} {f : Int32} {fl : List Int32} {g p q F n : Int32} {σ μ : mS} {M rk : Nat} {ρ0 : List Int32} {x y r live s : Int32} (C : CXT e M F n rk) (hk : rk ≤ 2000000) (A : PT e w xf c d rest f fl (ρ0 ++ [x] ++ [y]) (-1) g p q F n σ μ) (z : eZ e rk g p q (ρ0 ++ [x] ++ [y]) (-1)) (ho : opx e p 51) (ha : acm e q 23) (hs : sI (eμ e) 71 q = s) (ln : lin e p q) (h1 : nx e (p + 1) = r) (h2 : nx e (p + 2) = x) (h3 : nx e (p + 3) = y) (h4 : nx e (p + 4) = live) (x0 : 0 ≤ x) (y0 : 0 ≤ y) (ok : okr ρ0 r 1 (sI (eσ e) 261 g)) (V : lvS e g ρ0 live) (L : (s = 303 ∧ lo e rk g (p + 5) (q + 1) (ρ0 ++ [r]) (-1)) ∨ (s = 304 ∧ lo e rk g (p + 5) (q + 1) (ρ0 ++ [r]) (-2))) : Good e (M + 3000) σ μ := by
  obtain ⟨E, hM, Z, _, _, G, _, _⟩ := id C
  have hx := PT_x A ho (fun s => rfl)
  have S := PT_s A 5
  have LL := PT_LE (k := 0) A ho ln 5
  have hm := act_f A ha
  have two : ∀ μ : mS, mm_two (eN e) μ s = mm_two_28 (eN e) s (μ.1 143 - 2) (μ.1 143 - 1) μ := fun μ => by
    rcases L with ⟨rfl, _⟩ | ⟨rfl, _⟩ <;> rfl
  rw [af_23, act_g A ha, mf_23, act_b, more_b, hs, two] at hm
  have h256 := fun i => xP_256 S.1 i
  rw [sf_sg (by decide), sgn_x (by decide) ho.1 h256, h1, h2, h3, h4, sgF, if_pos rfl, sg269, bx_me (fun z => rfl)] at hx
  generalize xP σ f p 5 = τ at hx S h256 LL
  generalize actP μ (n - 1) q = τm at hm S LL
  have zk0 := zk_of Z z
  have zk1 : zk e g ρ0 := zk_l (zk_l zk0)
  obtain ⟨B, ⟨t0, t1, t2⟩, ⟨B0, B1, B2⟩, e0, e1, v0', v1'⟩ := top_2 S.1 zk0.1
  have bb := bnd3 B0 B2
  have A2 := PT_take S.1 (j := ρ0.length) (by rw [List.append_assoc, List.length_append]; omega) e0
  rw [List.append_assoc, List.take_left' rfl] at A2
  have S2 : ST e w xf c d rest f fl ρ0 (-1) g (p + 5) (q + 1) F n τ (md_pi τm 143 B) := ⟨A2, S.2⟩
  have vx := RV_V v0' x0
  have vy := RV_V v1' y0
  have xR := zk_reg zk0 (x := x) (by simp) x0
  have yR := zk_reg zk0 (x := y) (by simp) y0
  have tvx := VV_t vx
  have tvy := VV_t vy
  have H0 := S.1.1.1
  obtain ⟨b, b1, b2, b01⟩ := same_2 (EV_N E) H0.1.1.1.1 H0.1.1.1.2.1 vx vy
  have e141 : ∀ i : Int32, τm.2.2.1 141 i.toNatClampNeg = sI τm 141 i := fun i => rfl
  have e142 : ∀ i : Int32, τm.2.2.2 142 i.toNatClampNeg = sJ τm 142 i := fun i => rfl
  rw [xx6_same, (rd_r S x0 xR).1, bd_so, (rd_r S x0 xR).2, bd_so, (rd_r S y0 yR).1, bd_so, (rd_r S y0 yR).2, bd_so, b1, bd_so] at hx
  rw [show τm.1 143 = sF τm 143 from rfl, t2, t1, mm_two_28, gd_in (by decide) bb.1.1 bb.1.2, gd_in (by decide) bb.1.1 bb.1.2, gd_in (by decide) bb.2.1.1 bb.2.1.2, gd_in (by decide) bb.2.1.1 bb.2.1.2, e141, e141, e142, e142, b2, bd_so] at hm
  have h406 := (PT_0 A).1
  have h178 := (PT_0 A).2
  have fin : ∀ (b b0 : Int32) (υm : mS), (b = 0 ∨ b = 1) → b0 = b → ST e w xf c d rest f fl ρ0 (-1) g (p + 5) (q + 1) F n τ (md_pi υm 143 B) → xx6_step (eN e) σ = bd (xx6_setTruth (eN e) τ r b) (fun z => some (.ok z)) → mm_act (eN e) μ = mm_two_108 (eN e) s B b0 υm → Good e (M + 3000) σ μ := by
    intro b b0 υm hb e0 S3 hx hm
    subst e0
    have hs2 : (s = 303 ∧ (if s = 303 then b0 else 1 - b0) = b0) ∨ (s = 304 ∧ (if s = 303 then b0 else 1 - b0) = 1 - b0) := by
      rcases L with ⟨c, _⟩ | ⟨c, _⟩
      · exact .inl ⟨c, if_pos c⟩
      · exact .inr ⟨c, if_neg (by rw [c]; decide)⟩
    refine truth_S G S3 zk1 ok hb hs2 L h406 h178 hx (hm.trans ?_)
    rw [mm_two_108, lt]
    rcases hs2 with ⟨c, c2⟩ | ⟨c, c2⟩
    · rw [c2, if_pos c, mm_two_129]
      rcases hb with rfl | rfl
      · rw [if_neg n01]; exact bd_me (fun z => rfl)
      · rw [if_pos rfl]; exact bd_me (fun z => rfl)
    · rw [c2, if_neg (by rw [c]; decide), mm_two_129]
      rcases hb with rfl | rfl
      · rw [if_pos rfl]; exact bd_me (fun z => rfl)
      · rw [if_neg n10]; exact bd_me (fun z => rfl)
  rcases b01 with rfl | rfl
  · rw [if_neg n10, bd_cg (fun z => rfl)] at hx
    rw [if_neg n10] at hm
    exact fin 1 1 τm (.inr rfl) rfl S2 hx hm
  · rw [if_pos rfl, (rd_r S x0 xR).1, bd_so] at hx
    rw [if_pos rfl, gd_in (by decide) bb.1.1 bb.1.2, e141] at hm
    have f62 : xx6_same_b62 (eN e) r x y live τ = bd (xx6_setTruth (eN e) τ r 0) (fun z => some (.ok z)) := by
      rw [xx6_same_b62, xx6_same_b63, if_pos rfl]; exact bd_cg (fun z => rfl)
    by_cases cx : xt τ f x = 5
    · rw [if_pos cx, (rd_r S y0 yR).1, bd_so] at hx
      rw [if_pos (tvx.2.2.2.1.mp cx), gd_in (by decide) bb.2.1.1 bb.2.1.2, e141] at hm
      by_cases cy : xt τ f y = 5
      · rw [if_pos cy] at hx
        rw [if_pos (tvy.2.2.2.1.mp cy)] at hm
        have eh : ∀ th : Int32, ctS (eS e) (sI (eσ e) 261 g) g (p + 5) (q + 1) ρ0 2 r 1 1 th → mm_act (eN e) μ = mm_two_101 (eN e) s B 0 B (sF τm 210) th τm → Good e (M + 3000) σ μ := by
          intro th ct hm
          rw [mm_two_101] at hm
          rcases eh_2 (th := th) C zk1 S2 LL (LV_S S2 V) B0 B2 x0 xR y0 yR vx vy t0 rfl rfl rfl rfl (k := 5) (by decide) ct with ⟨i1, i2⟩ | ⟨h, τ', ⟨h0, h1'⟩, i1, i2, G2⟩
          · have i1' : xx6_eitherHandler (eN e) τ x y 5 = some (-1, τ) := i1
            have i2' : mm_callHandler (eN e) τm B (sF τm 210) th = some (0, gt τm 0 0) := i2
            rw [i1', bd_so, xx6_same_b63, if_pos rfl] at hx
            rw [i2', bd_so, if_pos rfl] at hm
            exact fin 0 0 (gt τm 0 0) (.inl rfl) rfl (ST_gt S2) (hx.trans (bd_cg (fun z => rfl))) hm
          · have i1' : xx6_eitherHandler (eN e) τ x y 5 = some (h, τ) := i1
            have i2' : mm_callHandler (eN e) τm B (sF τm 210) th = bd (mm_call (eN e) τ' B 2 1 th) (fun z6 => gd (zB 1) (some ((1, z6) : Int32 × mS))) := i2
            have hne : ¬ h = -1 := fun q => by rw [q] at h0; exact absurd h0 (by decide)
            rw [i1', bd_so, xx6_same_b63, if_neg hne, (rd_r S x0 xR).1, bd_so, (rd_r S x0 xR).2, bd_so, (rd_r S y0 yR).1, bd_so, (rd_r S y0 yR).2, bd_so] at hx
            rw [i2', kk_1 (fun z => by rw [if_neg n10])] at hm
            exact good_G A (hx.trans (bx_me (fun z => rfl))) hm G2
        rcases L with ⟨c, L⟩ | ⟨c, L⟩
        · rw [if_pos c] at hm
          exact eh 1 (.inr (.inr (.inr (.inr (.inl ⟨rfl, rfl, ok, lo_S hk L⟩))))) hm
        · rw [if_neg (by rw [c]; decide)] at hm
          exact eh 2 (.inr (.inr (.inr (.inr (.inr ⟨rfl, rfl, ok, lo_S hk L⟩))))) hm
      · rw [if_neg cy, f62] at hx
        rw [if_neg (fun q => cy (tvy.2.2.2.1.mpr q))] at hm
        exact fin 0 0 τm (.inl rfl) rfl S2 hx hm
    · rw [if_neg cx, f62] at hx
      rw [if_neg (fun q => cx (tvx.2.2.2.1.mpr q))] at hm
      exact fin 0 0 τm (.inl rfl) rfl S2 hx hm
