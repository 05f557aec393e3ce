/-! LAYER 2: step rules: loops that count; a loop's test -/
theorem tx_10 : xtx 10 = mtx 32 := by decide +kernel
theorem tx_11 : xtx 11 = mtx 33 := by decide +kernel
/-- a register and a place of the pile are written together -/
theorem upd_S {e : EV} {w : WD} {xf : Int32 → List Int32} {c d : Int32} {rest : PL2} {f : Int32} {fl : List Int32} {ρ : List Int32} {g p q F n : Int32} {σ μ : mS} {τm : mS} (S : ST e w xf c d rest f fl ρ (-1) g p q F n σ μ) (z : zk e g ρ) {j : Nat} (hj : j < ρ.length) {r tx tm x' : Int32} {vx vm : Int64} (r0 : 0 ≤ r) (rR : r < sI (eσ e) 261 g) (t0 : 0 ≤ tx) (t1 : tx ≤ 8) (hu : ∀ i, i < ρ.length → i ≠ j → dc (ρ.getD i 0) ≠ r) (hx' : ∀ τ, xt τ f r = tx → xv τ f r = vx → RV w τ f x' tm vm) (y : mtc (n - 1) (mff μ (n - 1) 3) μ τm) (hq : sI τm 146 (n - 1) = q) (h143 : sF τm 143 = sF μ 143) (hI : ∀ i, i < ρ.length → (sI τm 141 (mff μ (n - 1) 3 + Int32.ofNat i) = if i = j then tm else sI μ 141 (mff μ (n - 1) 3 + Int32.ofNat i)) ∧ (sJ τm 142 (mff μ (n - 1) 3 + Int32.ofNat i) = if i = j then vm else sJ μ 142 (mff μ (n - 1) 3 + Int32.ofNat i))) {N : Nat} : xx6_set N σ r tx vx = some (xS σ (sI σ 347 f + r) tx vx) ∧ ST e w xf c d rest f fl ρ (-1) g p q F n σ μ ∧ ST e w xf c d rest f fl (ρ.set j x') (-1) g p q F n (xS σ (sI σ 347 f + r) tx vx) τm := by
  obtain ⟨z1, z2, z3, z4, z5, z6, z7⟩ := PT_k S.1 z
  have r25 : r ≤ 2500 := Int32.le_trans (Int32.le_of_lt rR) z5.2
  have rs : r + 1 ≤ sI (eσ e) 261 g := by have := z5.2; clear hI hx' hu; lia
  obtain ⟨ir, s1, _, _⟩ := set_x (N := N) (t := tx) (v := vx) S r0 r25 rs t0 t1
  have I := rg_in z3.1 z3.2.2.1 z3.2.1 z3.2.2.2 r0 rs r25 z5.1
  have e347 : sI (xS σ (sI σ 347 f + r) tx vx) 347 f = sI σ 347 f := mf_I xS_f rfl
  have rd : ∀ s, 0 ≤ s → s ≤ 2600 → s ≠ r → xt (xS σ (sI σ 347 f + r) tx vx) f s = xt σ f s ∧ xv (xS σ (sI σ 347 f + r) tx vx) f s = xv σ f s := fun s s0 s1 ne => by
    have Q := rg_ne (r := r) (s := s) z3.1 z3.2.1 r0 (Int32.le_trans r25 (by decide)) s0 (Int32.le_trans s1 (by decide))
    simp only [xt, xv]
    rw [e347, xS_I ir.1 Q.2, xS_J ir.1 Q.2, if_neg (fun q => ne (Q.1.mp q)), if_neg (fun q => ne (Q.1.mp q))]
    exact ⟨rfl, rfl⟩
  have wr : xt (xS σ (sI σ 347 f + r) tx vx) f r = tx ∧ xv (xS σ (sI σ 347 f + r) tx vx) f r = vx := by
    simp only [xt, xv]
    rw [e347, xS_I ir.1 ir.1, xS_J ir.1 ir.1, if_pos rfl, if_pos rfl]
    exact ⟨rfl, rfl⟩
  obtain ⟨g1, g2, g3, g4, g5⟩ := PT_at S.1 z1
  have e3 : mff τm (n - 1) 3 = mff μ (n - 1) 3 := mf_I (k := 147) y.1 (nT_f (by omega))
  refine ⟨s1, S, ⟨PT_mk S.1 (xS_tc rfl ir.1 I.2.1 I.2.2) y ((mf_I xS_f rfl).trans S.1.2.2.1) hq (.inl ⟨rfl, RG_of (fun i hi => ?_), ?_⟩), ?_, ?_⟩⟩
  · rw [List.length_set] at hi
    obtain ⟨a1, a2⟩ := hI i hi
    rw [e3, a1, a2, set_at hi]
    by_cases c : i = j
    · rw [if_pos c, if_pos c, if_pos c]
      exact hx' _ wr.1 wr.2
    · rw [if_neg c, if_neg c, if_neg c]
      exact RV_cg (g1 i hi) (fun d0 => rd _ d0 (by have := z2 _ (i_rho hi); have := z3.2.2.2; clear hI hx' hu g1 g5; lia) (hu i hi c))
  · rw [e3, h143, List.length_set]; exact g2
  · rw [e347]; exact (mf_F xS_f rfl).trans S.2.1
  · exact (mf_F xS_f rfl).trans S.2.2
theorem PT_spec {e : EV} {w : WD} {xf : Int32 → List Int32} {c d : Int32} {rest : PL2} {f : Int32} {fl : List Int32} {ρ : List Int32} {g p q F n : Int32} {σ μ : mS} (A : PT e w xf c d rest f fl ρ (-1) g p q F n σ μ) (h3 : ρ.length ≤ 2000) {ρ' : List Int32} (hl : ρ'.length = ρ.length) (h : ∀ j, j < ρ.length → RV w σ f (ρ'.getD j 0) (sI μ 141 (mff μ (n - 1) 3 + Int32.ofNat j)) (sJ μ 142 (mff μ (n - 1) 3 + Int32.ofNat j))) : PT e w xf c d rest f fl ρ' (-1) g p q F n σ μ := by
  obtain ⟨h1, h2, _, h4, h5⟩ := PT_at A h3
  exact PT_pile A mtc_rfl h4 (by rw [hl]; exact h2) (fun j hj => h j (by omega))
theorem beyond_m {N : Nat} {μ : mS} {P : Int32} {v : Int64} (h1 : 0 ≤ P + 1 ∧ P + 1 < 500000) (h2 : 0 ≤ P + 2 ∧ P + 2 < 500000) : mm_isBeyond N μ P v = some ((if lg_cmp (sJ μ 142 (P + 2)) 0 ≤ 0 then (if 0 ≤ lg_cmp v (sJ μ 142 (P + 1)) then 0 else 1) else (if lg_cmp v (sJ μ 142 (P + 1)) ≤ 0 then 0 else 1)), μ) := by
  rw [mm_isBeyond, gd_in (by decide) h2.1 h2.2]
  have e1 : μ.2.2.2 142 (P + 1).toNatClampNeg = sJ μ 142 (P + 1) := rfl
  have e2 : μ.2.2.2 142 (P + 2).toNatClampNeg = sJ μ 142 (P + 2) := rfl
  rw [e2, gd_in (by decide) h1.1 h1.2, gd_in (by decide) h1.1 h1.2, e1]
  split
  · split <;> rfl
  · split <;> rfl
theorem set3_at {ρ : List Int32} {j i : Nat} {a b c : Int32} (hi : i < ρ.length) : (((ρ.set j a).set (j + 1) b).set (j + 2) c).getD i 0 = if i = j + 2 then c else if i = j + 1 then b else if i = j then a else ρ.getD i 0 := by
  rw [set_at (by simp; omega), set_at (by simp; omega), set_at hi]
/-- STEPS, FOR -/
theorem r_steps {e : EV} {w : WD} {xf : Int32 → List Int32} {c d : Int32} {rest : PL2} {f : Int32} {fl : List Int32} {ρ : List Int32} {g p q F n : Int32} {σ μ : mS} {M rk : Nat} {a : Int32} {j : Nat} (C : CXT e M F n rk) (A : PT e w xf c d rest f fl ρ (-1) g p q F n σ μ) (z : eZ e rk g p q ρ (-1)) (ho : opx e p 29) (ha : acm e q 37) (ln : lin e p q) (h1 : nx e (p + 1) = a) (a0 : 0 ≤ a) (hj : j + 2 < ρ.length) (s0 : ρ.getD j 0 = a) (s1 : ρ.getD (j + 1) 0 = a + 1) (s2 : ρ.getD (j + 2) 0 = a + 2) (hv : sI (eμ e) 72 q = Int32.ofNat j) (L1 : lo e rk g (p + 3) (q + 1) (((ρ.set j (-30000 - a)).set (j + 1) (-30000 - (a + 1))).set (j + 2) (-40000 - (a + 2))) (-1)) (L2 : lo e rk g (nx e (p + 2)) (sI (eμ e) 71 q) ρ (-1)) : Good e (M + 3000) σ μ := by
  obtain ⟨E, hM, Z, EK, LB, G, HGs, GR⟩ := id C
  have hx := PT_x A ho (fun s => rfl)
  have S := PT_s A 3
  have LL := PT_LE (k := 0) A ho ln 3
  have o := ops_1 ho.1.1 ho.1.2
  have e3 : mff (actP μ (n - 1) q) (n - 1) 3 = mff μ (n - 1) 3 := mf_I actP_fr rfl
  have hm := act_f A ha
  rw [af_37, act_g A ha, mf_37, act_b, more_b, hv, ← e3] at hm
  have h256 := fun i => xP_256 S.1 i
  obtain ⟨k1, xa, xl⟩ := rare_k (N := eN e) (k := 29) ho.1.1 ho.1.2 h256
  rw [sf_29, rare_s, k1, rf_29, xa, xl, gd_tt, gd_in (by decide) o.2.1.1 o.2.1.2, rare_b, h256 (p + 2), h1] at hx
  clear k1 e3
  have f01 := (PT_N A).1
  have k01 := (PT_N A).2.1
  generalize xP σ f p 3 = τ at hx S h256 LL
  generalize actP μ (n - 1) q = τm at hm S LL
  have zk0 := zk_of Z z
  have e411 : τ.1 411 = f := S.2.2
  obtain ⟨g1, g2, g3, g4, g5⟩ := PT_at S.1 zk0.1
  have b0 := (g5 j (by omega) 0 (by omega)).1
  have b1 := (g5 (j + 1) (by omega) 0 (by omega)).1
  have b2 := (g5 (j + 2) (by omega) 0 (by omega)).1
  have p1 : mff τm (n - 1) 3 + Int32.ofNat j + 1 = mff τm (n - 1) 3 + Int32.ofNat (j + 1) := b_p1
  have p2 : mff τm (n - 1) 3 + Int32.ofNat j + 2 = mff τm (n - 1) 3 + Int32.ofNat (j + 2) := by rw [← b_p1, ← p1]; lia
  have v0 := g1 j (by omega)
  have v1 := g1 (j + 1) (by omega)
  have v2 := g1 (j + 2) hj
  have m0 : a ∈ ρ := by have := i_rho (ρ := ρ) (j := j) (by omega); rw [s0] at this; exact this
  have m1 : a + 1 ∈ ρ := by have := i_rho (ρ := ρ) (j := j + 1) (by omega); rw [s1] at this; exact this
  have m2 : a + 2 ∈ ρ := by have := i_rho hj; rw [s2] at this; exact this
  have R25 := (PT_k S.1 zk0).2.2.2.2.1.2
  have aR := zk_reg zk0 m0 a0
  have a10 : 0 ≤ a + 1 ∧ 0 ≤ a + 2 ∧ a + 2 ≤ 2600 := by clear g1 g5 v0 v1 v2 hx hm h256 LL; exact ⟨by lia, by lia, by lia⟩
  have a1R := zk_reg zk0 m1 a10.1
  have a2R := zk_reg zk0 m2 a10.2.1
  rw [s0] at v0
  rw [s1] at v1
  rw [s2] at v2
  have w0 := RV_V v0 a0
  have w1 := RV_V v1 a10.1
  have w2 := RV_V v2 a10.2.1
  have c0 := VV_t w0
  have c1 := VV_t w1
  have c2 := VV_t w2
  rw [← p1] at v1 b1 w1 c1
  rw [← p2] at v2 b2 w2 c2
  have q141 : ∀ i : Int32, τm.2.2.1 141 i.toNatClampNeg = sI τm 141 i := fun i => rfl
  have q142 : ∀ i : Int32, τm.2.2.2 142 i.toNatClampNeg = sJ τm 142 i := fun i => rfl
  have hF := S.1.2.2.2.2.1
  have hn := S.1.2.2.2.2.2
  have bad : xx6_step (eN e) σ = xx6_steps_b31 (eN e) τ → mm_act (eN e) μ = mm_begin_2_34 (eN e) τm → Good e (M + 3000) σ μ := fun hx hm =>
    good_UO C A hx hm (UO_bd (fault_UO E (PT_UK S.1 LL) (t := 10) (tm := 32) (by decide) (by decide) tx_10 (by decide +kernel)) (fun z => rfl)) hF hn
  rw [xx6_steps, (rd_r S a0 aR).1, bd_so] at hx
  rw [mm_begin_2, gd_in (by decide) b0.1 b0.2, q141] at hm
  by_cases t0 : xt τ f a = 3
  · rw [if_pos t0, (rd_r S a10.1 a1R).1, bd_so] at hx
    rw [if_pos (c0.2.1.mp t0), gd_in (by decide) b1.1 b1.2, q141] at hm
    by_cases t1 : xt τ f (a + 1) = 3
    · rw [if_pos t1, (rd_r S a10.2.1 a2R).1, bd_so] at hx
      rw [if_pos (c1.2.1.mp t1), gd_in (by decide) b2.1 b2.2, q141] at hm
      by_cases t2 : xt τ f (a + 2) = 3
      · have y0 := c0.2.1.mp t0
        have y1 := c1.2.1.mp t1
        have y2 := c2.2.1.mp t2
        have n0 := w0
        have n1 := w1
        have n2 := w2
        rw [t0, y0] at n0
        rw [t1, y1] at n1
        rw [t2, y2] at n2
        have x0 := VV_3 n0
        have x1 := VV_3 n1
        have x2 := VV_3 n2
        rw [if_pos t2, (rd_r S a10.2.1 a2R).2, bd_so, x2] at hx
        rw [if_pos y2, gd_in (by decide) b2.1 b2.2, q142] at hm
        by_cases d0 : lg_cmp (sJ τm 142 (mff τm (n - 1) 3 + Int32.ofNat j + 2)) 0 = 0
        · rw [if_pos d0] at hx hm
          exact good_UO C A hx hm (UO_bd (fault_UO E (PT_UK S.1 LL) (t := 11) (tm := 33) (by decide) (by decide) tx_11 (by decide +kernel)) (fun z => rfl)) hF hn
        · have nz : sJ τm 142 (mff τm (n - 1) 3 + Int32.ofNat j + 2) ≠ 0 := fun h => d0 (lgc_eq.mpr h)
          have out : xx6_step (eN e) σ = xx6_steps_b106 (eN e) (nx e (p + 2)) τ → mm_act (eN e) μ = some (md_ai τm 146 (n - 1).toNatClampNeg (sI (eμ e) 71 q)) → Good e (M + 3000) σ μ := fun hx hm => by
            rw [xx6_steps_b106, e411, gd_in (by decide) f01.1 f01.2, lt] at hx
            exact Good_2 A hx hm (GK_lo G (PT_jm (PT_go S.1 _) _) L2)
          have on : xx6_step (eN e) σ = xx6_steps_b119 (eN e) τ → mm_act (eN e) μ = some τm → Good e (M + 3000) σ μ := fun hx hm => by
            refine Good_2 A hx hm (GK_lo G (PT_spec S.1 zk0.1 (by simp) (fun i hi => ?_)) L1)
            rw [set3_at hi]
            by_cases i2 : i = j + 2
            · rw [if_pos i2, i2, ← p2]
              exact RV_z a10.2.1 (by lia) w2 y2 nz
            · rw [if_neg i2]
              by_cases i1 : i = j + 1
              · rw [if_pos i1, i1, ← p1]
                exact RV_u a10.1 (by lia) w1 y1
              · rw [if_neg i1]
                by_cases i0 : i = j
                · rw [if_pos i0, i0]
                  exact RV_u a0 (by lia) w0 y0
                · rw [if_neg i0]; exact g1 i hi
          rw [if_neg d0, (rd_r S a10.2.1 a2R).2, bd_so, x2] at hx
          rw [if_neg d0, gd_in (by decide) b0.1 b0.2, q142, beyond_m b1 b2, bd_so] at hm
          by_cases d1 : lg_cmp (sJ τm 142 (mff τm (n - 1) 3 + Int32.ofNat j + 2)) 0 ≤ 0
          · rw [if_pos d1, (rd_r S a0 aR).2, bd_so, (rd_r S a10.1 a1R).2, bd_so, x0, x1] at hx
            rw [if_pos d1] at hm
            by_cases d2 : 0 ≤ lg_cmp (sJ τm 142 (mff τm (n - 1) 3 + Int32.ofNat j)) (sJ τm 142 (mff τm (n - 1) 3 + Int32.ofNat j + 1))
            · rw [if_pos d2] at hx
              rw [if_pos d2, if_pos rfl] at hm
              exact on hx hm
            · rw [if_neg d2] at hx
              rw [if_neg d2, if_neg n10, gd_in (by decide) k01.1 k01.2, lt] at hm
              exact out hx hm
          · rw [if_neg d1, (rd_r S a0 aR).2, bd_so, (rd_r S a10.1 a1R).2, bd_so, x0, x1] at hx
            rw [if_neg d1] at hm
            by_cases d2 : lg_cmp (sJ τm 142 (mff τm (n - 1) 3 + Int32.ofNat j)) (sJ τm 142 (mff τm (n - 1) 3 + Int32.ofNat j + 1)) ≤ 0
            · rw [if_pos d2] at hx
              rw [if_pos d2, if_pos rfl] at hm
              exact on hx hm
            · rw [if_neg d2] at hx
              rw [if_neg d2, if_neg n10, gd_in (by decide) k01.1 k01.2, lt] at hm
              exact out hx hm
      · rw [if_neg t2] at hx
        rw [if_neg (fun q => t2 (c2.2.1.mpr q))] at hm
        exact bad hx hm
    · rw [if_neg t1] at hx
      rw [if_neg (fun q => t1 (c1.2.1.mpr q))] at hm
      exact bad hx hm
  · rw [if_neg t0] at hx
    rw [if_neg (fun q => t0 (c0.2.1.mpr q))] at hm
    exact bad hx hm
theorem st_1 {v s : Int64} (h : s ≠ 0) : v + s ≠ v := fun q => h (by
  have := congrArg (fun t => t - v) q
  simp only [Int64.sub_self] at this
  rw [Int64.add_comm, Int64.add_sub_cancel] at this
  exact this)
/-- STEP, AGAIN -/
theorem r_step {e : EV} {w : WD} {xf : Int32 → List Int32} {c d : Int32} {rest : PL2} {f : Int32} {fl : List Int32} {ρ : List Int32} {g p q F n : Int32} {σ μ : mS} {M rk : Nat} {a : Int32} {j : Nat} (Z : ZRok e) (G : GK e M F n rk) (A : PT e w xf c d rest f fl ρ (-1) g p q F n σ μ) (z : eZ e rk g p q ρ (-1)) (ho : opx e p 30) (ha : acm e q 38) (h1 : nx e (p + 1) = a) (a0 : 0 ≤ a) (a25 : a ≤ 2490) (hj : j + 2 < ρ.length) (s0 : ρ.getD j 0 = -30000 - a) (s1 : ρ.getD (j + 1) 0 = -30000 - (a + 1)) (s2 : ρ.getD (j + 2) 0 = -40000 - (a + 2)) (hu : ∀ i, i < ρ.length → i ≠ j → dc (ρ.getD i 0) ≠ a) (hv : sI (eμ e) 72 q = Int32.ofNat j) (L1 : lo e rk g (p + 3) (q + 1) ρ (-1)) (L2 : lo e rk g (nx e (p + 2)) (sI (eμ e) 71 q) ρ (-1)) : Good e (M + 3000) σ μ := by
  have hx := PT_x A ho (fun s => rfl)
  have S := PT_s A 3
  have o := ops_1 ho.1.1 ho.1.2
  have e3 : mff (actP μ (n - 1) q) (n - 1) 3 = mff μ (n - 1) 3 := mf_I actP_fr rfl
  have hm := act_f A ha
  rw [af_38, act_g A ha, mf_38, act_b, more_b, hv, ← e3] at hm
  have h256 := fun i => xP_256 S.1 i
  obtain ⟨k1, xa, xl⟩ := rare_k (N := eN e) (k := 30) ho.1.1 ho.1.2 h256
  rw [sf_30, rare_s, k1, rf_30, xa, xl, h1] at hx
  clear k1 e3
  have f01 := (PT_N A).1
  have k01 := (PT_N A).2.1
  generalize xP σ f p 3 = τ at hx S h256
  generalize actP μ (n - 1) q = τm at hm S
  have zk0 := zk_of Z z
  obtain ⟨g1, g2, g3, g4, g5⟩ := PT_at S.1 zk0.1
  have B0 := g5 j (by omega) 0 (by omega)
  have b0 := B0.1
  have b1 := (g5 (j + 1) (by omega) 0 (by omega)).1
  have b2 := (g5 (j + 2) (by omega) 0 (by omega)).1
  have p1 : mff τm (n - 1) 3 + Int32.ofNat j + 1 = mff τm (n - 1) 3 + Int32.ofNat (j + 1) := b_p1
  have p2 : mff τm (n - 1) 3 + Int32.ofNat j + 2 = mff τm (n - 1) 3 + Int32.ofNat (j + 2) := by rw [← b_p1, ← p1]; lia
  have v0 := g1 j (by omega)
  have v1 := g1 (j + 1) (by omega)
  have v2 := g1 (j + 2) hj
  have a10 : 0 ≤ a + 1 ∧ 0 ≤ a + 2 ∧ a ≤ 2500 ∧ a + 1 ≤ 2500 ∧ a + 2 ≤ 2500 := by clear g1 g5 v0 v1 v2 hx hm h256 hu; exact ⟨by lia, by lia, by lia, by lia, by lia⟩
  have reg : ∀ {x r : Int32}, x ∈ ρ → dc x = r → r < sI (eσ e) 261 g := fun hx e => by have := zk0.2 _ hx; rw [e] at this; exact this
  have aR : a < sI (eσ e) 261 g := reg (i_rho (ρ := ρ) (j := j) (by omega)) (by rw [s0]; exact dc_nu a0 (by lia))
  have a1R : a + 1 < sI (eσ e) 261 g := reg (i_rho (ρ := ρ) (j := j + 1) (by omega)) (by rw [s1]; exact dc_nu a10.1 (by lia))
  have a2R : a + 2 < sI (eσ e) 261 g := reg (i_rho hj) (by rw [s2]; exact dc_nz a10.2.1 (by lia))
  rw [s0] at v0
  rw [s1] at v1
  rw [s2] at v2
  obtain ⟨w0, y0⟩ := RV_num v0 a0 a10.2.2.1
  obtain ⟨w1, y1⟩ := RV_num v1 a10.1 a10.2.2.2.1
  obtain ⟨w2, y2, nz⟩ := RV_nz v2 a10.2.1 a10.2.2.2.2
  have t0 := (VV_t w0).2.1.mpr y0
  have t1 := (VV_t w1).2.1.mpr y1
  have t2 := (VV_t w2).2.1.mpr y2
  rw [t0, y0] at w0
  rw [t1, y1] at w1
  rw [t2, y2] at w2
  have x0 := VV_3 w0
  have x1 := VV_3 w1
  have x2 := VV_3 w2
  rw [← p1] at b1 x1
  rw [← p2] at b2 x2 nz
  have q142 : ∀ i : Int32, τm.2.2.2 142 i.toNatClampNeg = sJ τm 142 i := fun i => rfl
  have e411 : τ.1 411 = f := S.2.2
  generalize eP : mff τm (n - 1) 3 + Int32.ofNat j = P at *
  have ns := st_1 (v := sJ τm 142 P) nz
  have on : xx6_step (eN e) σ = some (.ok τ) → mm_act (eN e) μ = some τm → Good e (M + 3000) σ μ := fun hx hm => Good_2 A hx hm (GK_lo G S.1 L1)
  have again : xx6_step (eN e) σ = bd (xx6_value (eN e) τ a) (fun z82 => bd (xx6_value (eN e) z82.2 (a + 2)) (fun z83 => bd (xx6_set (eN e) z83.2 a 3 (z82.1 + z83.1)) (fun z84 => gd true (gd (inB (p + 2) 340000) (gd (inB (z84.1 411) 202) (lt (md_ai z84 346 (Int32.toNatClampNeg (z84.1 411)) (z84.2.2.1 256 (Int32.toNatClampNeg (p + 2)))) (fun σ85 : mS => xx6_rare_b672 (eN e) σ85))))))) → mm_act (eN e) μ = some (md_ai (md_al τm 142 P.toNatClampNeg (sJ τm 142 P + sJ τm 142 (P + 2))) 146 (n - 1).toNatClampNeg (sI (eμ e) 71 q)) → Good e (M + 3000) σ μ := fun hx hm => by
    have fr : m_fr (fun k => [142].contains k) τm (md_al τm 142 P.toNatClampNeg (sJ τm 142 P + sJ τm 142 (P + 2))) := mf_al mf_rfl rfl
    have y : mtc (n - 1) (mff τm (n - 1) 3) τm (md_al τm 142 P.toNatClampNeg (sJ τm 142 P + sJ τm 142 (P + 2))) := by
      refine ⟨mf_mono fr (fun k hk => ?_), fun j hj i _ _ => by rcases hj with rfl | rfl | rfl <;> exact mf_I fr rfl, fun i i0 iB => ⟨mf_I fr rfl, ?_⟩⟩
      · simp only [nT, inR, List.contains_cons, List.contains_nil, Bool.or_eq_false_iff, beq_eq_false_iff_ne, Bool.and_eq_false_iff, decide_eq_false_iff_not] at hk ⊢
        (repeat' (first | exact trivial | omega | apply And.intro))
      · rw [sJ_lj b0.1 i0, if_neg (fun h => by rw [h] at iB; exact Int32.lt_irrefl (Int32.lt_of_lt_of_le iB B0.2.2.1))]
    obtain ⟨u1, _, u2⟩ := upd_S (N := eN e) (tx := 3) (tm := 2) (x' := -30000 - a) (vx := sJ τm 142 P + sJ τm 142 (P + 2)) (vm := sJ τm 142 P + sJ τm 142 (P + 2)) S zk0 (j := j) (by omega) a0 aR (by decide) (by decide) hu (fun τ h1 h2 => RV_u a0 a10.2.2.1 (by rw [h1, h2]; exact VV_n) rfl) y ((mf_I fr rfl).trans g4) (mf_F fr rfl) (fun i hi => by
      have bi := g5 i (by omega) j (by omega)
      rw [eP] at bi
      refine ⟨?_, ?_⟩
      · rw [mf_I fr (k := 141) rfl]
        by_cases c : i = j
        · rw [if_pos c, bi.2.1.mpr c]; exact y0
        · rw [if_neg c]
      · rw [sJ_lj b0.1 bi.1.1]
        by_cases c : i = j
        · rw [if_pos c, if_pos (bi.2.1.mpr c)]
        · rw [if_neg c, if_neg (fun q => c (bi.2.1.mp q))])
    have es : ρ.set j (-30000 - a) = ρ := by
      apply List.ext_getElem?
      intro i
      rw [List.getElem?_set]
      by_cases c : j = i
      · subst c
        rw [if_pos rfl, if_pos (by omega), ← s0, List.getD_eq_getElem?_getD, List.getElem?_eq_getElem (by omega)]
        rfl
      · rw [if_neg c]
    rw [es] at u2
    have u256 : (xS τ (sI τ 347 f + a) 3 (sJ τm 142 P + sJ τm 142 (P + 2))).2.2.1 256 (p + 2).toNatClampNeg = nx e (p + 2) := xP_256 u2.1 (p + 2)
    have u411 : (xS τ (sI τ 347 f + a) 3 (sJ τm 142 P + sJ τm 142 (P + 2))).1 411 = f := u2.2.2
    refine Good_2 A (hx.trans ?_) hm (GK_lo G (PT_jm (PT_go u2.1 _) _) L2)
    rw [(rd_r S a0 aR).2, bd_so, (rd_r S a10.2.1 a2R).2, bd_so, x0, x2, u1, bd_so, gd_tt, gd_in (by decide) o.2.1.1 o.2.1.2, u411, gd_in (by decide) f01.1 f01.2, u256, lt]
    rfl
  rw [(rd_r S a0 aR).2, bd_so, (rd_r S a10.1 a1R).2, bd_so, (rd_r S a10.2.1 a2R).2, bd_so, x0, x1, x2, xx6_mayStep, lt] at hx
  rw [mm_again, gd_in (by decide) b0.1 b0.2, q142, lt, gd_in (by decide) b2.1 b2.2, q142, lt, gd_in (by decide) b2.1 b2.2] at hm
  have w00 : ∀ u : Int32, mm_isBeyond (eN e) τm P (sJ τm 142 P + sJ τm 142 (P + 2)) = some (u, τm) → mm_again_63 (eN e) (n - 1) P (sI (eμ e) 71 q) (sJ τm 142 P + sJ τm 142 (P + 2)) 0 τm = (if u = 0 then some (md_ai (md_al τm 142 P.toNatClampNeg (sJ τm 142 P + sJ τm 142 (P + 2))) 146 (n - 1).toNatClampNeg (sI (eμ e) 71 q)) else some τm) := fun u hu => by
    rw [mm_again_63, if_pos rfl, hu, bd_so]
    dsimp only
    by_cases c : u = 0
    · rw [if_pos c, if_pos c, gd_in (by decide) b0.1 b0.2, lt, gd_in (by decide) k01.1 k01.2, lt]; rfl
    · rw [if_neg c, if_neg c]; rfl
  have w0 := w00 _ (beyond_m (N := eN e) b1 b2)
  have w1 : mm_again_63 (eN e) (n - 1) P (sI (eμ e) 71 q) (sJ τm 142 P + sJ τm 142 (P + 2)) 1 τm = some τm := by
    rw [mm_again_63, if_neg n10]; rfl
  have z0 : ∀ k : mS → Option (Except (Nat × mS) mS), bd (xx6_mayStep_b54 (eN e) 0 τ) (fun z81 => if z81.1 = 0 then xx6_rare_b672 (eN e) z81.2 else k z81.2) = some (.ok τ) := fun k => by
    rw [xx6_mayStep_b54, gd_z0, bd_so, if_pos rfl]; rfl
  by_cases d1 : lg_cmp (sJ τm 142 (P + 2)) 0 ≤ 0
  · rw [if_pos d1] at hx
    rw [if_pos d1] at w0
    rw [if_pos d1] at hm
    by_cases d2 : 0 ≤ lg_cmp (sJ τm 142 P + sJ τm 142 (P + 2)) (sJ τm 142 P)
    · rw [if_pos d2, xx6_mayStep_b53] at hx
      have d3 : ¬ lg_cmp (sJ τm 142 P + sJ τm 142 (P + 2)) (sJ τm 142 P) ≤ 0 := fun h => ns (Int64.le_antisymm (lgc_le.mp h) (lgc_ge.mp d2))
      rw [if_neg d3, w1] at hm
      rw [xx6_mayStep_b54, gd_z0, bd_so, if_pos rfl] at hx
      exact on hx hm
    · rw [if_neg d2] at hx
      have d3 : lg_cmp (sJ τm 142 P + sJ τm 142 (P + 2)) (sJ τm 142 P) ≤ 0 := lgc_le.mpr (Int64.le_of_lt (Int64.not_le.mp (fun h => d2 (lgc_ge.mpr h))))
      rw [if_pos d3, w0] at hm
      by_cases d4 : lg_cmp (sJ τm 142 P + sJ τm 142 (P + 2)) (sJ τm 142 (P + 1)) < 0
      · rw [if_pos d4, xx6_mayStep_b53, xx6_mayStep_b54, gd_z0, bd_so, if_pos rfl] at hx
        rw [if_neg (Int32.not_le.mpr d4), if_neg n10] at hm
        exact on hx hm
      · rw [if_neg d4, xx6_mayStep_b54, gd_z1, bd_so, if_neg n10] at hx
        rw [if_pos (Int32.not_lt.mp d4), if_pos rfl] at hm
        exact again hx hm
  · rw [if_neg d1] at hx
    rw [if_neg d1] at w0
    rw [if_neg d1] at hm
    by_cases d2 : lg_cmp (sJ τm 142 P + sJ τm 142 (P + 2)) (sJ τm 142 P) ≤ 0
    · rw [if_pos d2, xx6_mayStep_b31] at hx
      have d3 : ¬ 0 ≤ lg_cmp (sJ τm 142 P + sJ τm 142 (P + 2)) (sJ τm 142 P) := fun h => ns (Int64.le_antisymm (lgc_le.mp d2) (lgc_ge.mp h))
      rw [if_neg d3, w1] at hm
      rw [xx6_mayStep_b54, gd_z0, bd_so, if_pos rfl] at hx
      exact on hx hm
    · rw [if_neg d2] at hx
      have d3 : 0 ≤ lg_cmp (sJ τm 142 P + sJ τm 142 (P + 2)) (sJ τm 142 P) := lgc_ge.mpr (Int64.le_of_lt (Int64.not_le.mp (fun h => d2 (lgc_le.mpr h))))
      rw [if_pos d3, w0] at hm
      by_cases d4 : 0 < lg_cmp (sJ τm 142 P + sJ τm 142 (P + 2)) (sJ τm 142 (P + 1))
      · rw [if_pos d4, xx6_mayStep_b31, xx6_mayStep_b54, gd_z0, bd_so, if_pos rfl] at hx
        rw [if_neg (Int32.not_le.mpr d4), if_neg n10] at hm
        exact on hx hm
      · rw [if_neg d4, xx6_mayStep_b54, gd_z1, bd_so, if_neg n10] at hx
        rw [if_pos (Int32.not_lt.mp d4), if_pos rfl] at hm
        exact again hx hm
