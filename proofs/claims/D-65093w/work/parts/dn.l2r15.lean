/-! LAYER 2: step rules: PUT, SET_GLOBAL -/
theorem N_100 {N : Nat} (h : 1000000000000000 ≤ N) : (100 - (0 : Int32).toInt).toNat < N := by rw [show (0 : Int32).toInt = 0 from rfl]; omega
/-- PUT -/
theorem r_put {e : EV} {w : WD} {xf : Int32 → List Int32} {c d : Int32} {rest : PL2} {f : Int32} {fl : List Int32} {g p q F n : Int32} {σ μ : mS} {M rk : Nat} {ρ0 : List Int32} {x y v live : Int32} (C : CXT e M F n rk) (hk : rk ≤ 2000000) (A : PT e w xf c d rest f fl (ρ0 ++ [x] ++ [y] ++ [v]) (-1) g p q F n σ μ) (z : eZ e rk g p q (ρ0 ++ [x] ++ [y] ++ [v]) (-1)) (ho : opx e p 14) (ha : acm e q 16) (ln : lin e p q) (h1 : nx e (p + 1) = x) (h2 : nx e (p + 2) = y) (h3 : nx e (p + 3) = v) (h4 : nx e (p + 4) = live) (l0 : 0 ≤ live) (x0 : 0 ≤ x) (y0 : 0 ≤ y) (v0 : 0 ≤ v) (V : lvS e g ρ0 live) (L : lo e rk g (p + 5) (q + 1) ρ0 (-1)) : Good e (M + 3000) σ μ := by
  obtain ⟨E, hM, Z, _, _, G, _, _⟩ := id C
  have hx := PT_x A ho (fun s => rfl)
  have S := PT_s A 5
  have LL := PT_LE (k := 0) A ho ln 5
  have o := ops_1 ho.1.1 ho.1.2
  have hm := act_f A ha
  rw [af_16] at hm
  have h256 := fun i => xP_256 S.1 i
  rw [sf_14, gd_in (by decide) o.1.1 o.1.2, gd_in (by decide) o.2.1.1 o.2.1.2, gd_in (by decide) o.2.2.1.1 o.2.2.1.2, gd_in (by decide) o.2.2.2.1 o.2.2.2.2, rare_s, h256, h256, h256, h256, h1, h2, h3, h4] at hx
  generalize xP σ f p 5 = τ at hx S h256 LL
  generalize actP μ (n - 1) q = τm at hm S LL
  have zk0 := zk_of Z z
  have zk1 : zk e g ρ0 := zk_l (zk_l (zk_l zk0))
  obtain ⟨B, ⟨t0, t1, t2, t3⟩, ⟨B0, B1, B2⟩, e0, e1, e2, v0', v1', v2'⟩ := top_3 S.1 zk0.1
  have bb := bnd3 B0 B2
  have A2 := PT_take S.1 (j := ρ0.length) (by rw [List.append_assoc, List.append_assoc, List.length_append]; omega) e0
  rw [List.append_assoc, List.append_assoc, List.take_left' rfl] at A2
  have S2 : ST e w xf c d rest f fl ρ0 (-1) g (p + 5) (q + 1) F n τ (md_pi τm 143 B) := ⟨A2, S.2⟩
  have vx := RV_V v0' x0
  have vy := RV_V v1' y0
  have vv := RV_V v2' v0
  have xR := zk_reg zk0 (x := x) (by simp) x0
  have yR := zk_reg zk0 (x := y) (by simp) y0
  have vR := zk_reg zk0 (x := v) (by simp) v0
  have e141 : ∀ i : Int32, (md_pi τm 143 B).2.2.1 141 i.toNatClampNeg = sI τm 141 i := fun i => rfl
  have e142 : ∀ i : Int32, (md_pi τm 143 B).2.2.2 142 i.toNatClampNeg = sJ τm 142 i := fun i => rfl
  rw [xx6_put, (rd_r S x0 xR).1, bd_so, (rd_r S x0 xR).2, bd_so, (rd_r S y0 yR).1, bd_so, (rd_r S y0 yR).2, bd_so, (rd_r S v0 vR).1, bd_so, (rd_r S v0 vR).2, bd_so, if_pos l0, xx6_put_b68, if_pos l0, xx6_put_b95, bx_me (fun z => rfl), xx6_putIn] at hx
  rw [lt, show τm.1 143 = sF τm 143 from rfl, t3, show (md_pi τm 143 B).1 143 = B from rfl, gd_in (by decide) bb.1.1 bb.1.2, gd_in (by decide) bb.1.1 bb.1.2, gd_in (by decide) bb.2.1.1 bb.2.1.2, gd_in (by decide) bb.2.1.1 bb.2.1.2, gd_in (by decide) bb.2.2.1.1 bb.2.2.1.2, gd_in (by decide) bb.2.2.1.1 bb.2.2.1.2, act_b, mm_store_2, e141, e141, e141, e142, e142, e142] at hm
  rcases store_2 (μ := μ) C zk1 vy vv (lo_S hk L) (LV_S S2 V) B0 B2 (eN e) 0 (by decide) (by decide) (N_100 C.1.1) _ _ _ _ _ vx S2 rfl LL with ⟨σ', μ', i1, i2, S3⟩ | G2
  · exact Good_2 A (hx.trans i1) (hm.trans i2) (GK_lo G S3.1 L)
  · exact good_G A hx hm G2
/-- SET_GLOBAL -/
theorem r_setg {e : EV} {w : WD} {xf : Int32 → List Int32} {c d : Int32} {rest : PL2} {f : Int32} {fl : List Int32} {ρ0 : List Int32} {x : Int32} {g p q F n : Int32} {σ μ : mS} {M rk : Nat} {live : Int32} (C : CXT e M F n rk) (hk : rk ≤ 2000000) (A : PT e w xf c d rest f fl (ρ0 ++ [x]) (-1) g p q F n σ μ) (z : eZ e rk g p q (ρ0 ++ [x]) (-1)) (ho : opx e p 12) (ha : acm e q 13) (ln : lin e p q) (h1 : (nx e (p + 1), sI (eμ e) 71 q) ∈ eX' e) (h2 : nx e (p + 2) = x) (h3 : nx e (p + 3) = live) (l0 : 0 ≤ live) (x0 : 0 ≤ x) (V : lvS e g ρ0 live) (L : lo e rk g (p + 4) (q + 1) ρ0 (-1)) : Good e (M + 3000) σ μ := by
  obtain ⟨E, hM, Z, _, _, G, _, _⟩ := id C
  have hx := PT_x A ho (fun s => rfl)
  have S := PT_s A 4
  have LL := PT_LE (k := 0) A ho ln 4
  have o := ops_1 ho.1.1 ho.1.2
  have hm := act_f A ha
  rw [af_13] at hm
  have h256 := fun i => xP_256 S.1 i
  rw [sf_12, gd_in (by decide) o.1.1 o.1.2, gd_in (by decide) o.2.1.1 o.2.1.2, gd_in (by decide) o.2.2.1.1 o.2.2.1.2, rare_s, h256, h256, h256, h2, h3] at hx
  generalize xP σ f p 4 = τ at hx S h256 LL
  generalize actP μ (n - 1) q = τm at hm S LL
  have zk0 := zk_of Z z
  have zk1 : zk e g ρ0 := zk_l zk0
  obtain ⟨v, t2, t3, S2⟩ := top_S S zk0 x0
  have xR := zk_reg zk0 mem_l x0
  have B2 : sF τm 143 - 1 ≤ 480000 := by
    have N := (PT_N S.1).2.2.1
    have h0 := oN_bd (n := ρ0.length) zk1.1
    have n1 := N.1
    have n2 := N.2
    rw [t3]
    clear hx hm h256 LL v
    lia
  have H0 := S.1.1.1
  have ho395 := H0.1.2.2.1.2.2.2.2.2.2.1
  have vs : VV w 4 (Int32.toInt64 (nx e (p + 1))) 3 (Int32.toInt64 (sI (eμ e) 71 q)) := .inr (.inr (.inr (.inr (.inl ⟨rfl, rfl, _, _, rfl, rfl, .inr (H0.2.1.2.2.1 _ h1)⟩))))
  have vt : VV w 5 (Int32.toInt64 (sF τ 395)) 4 (Int32.toInt64 (sF τm 191)) := VV_tn ho395
  have e141 : ∀ i : Int32, (md_pi τm 143 (sF τm 143 - 1)).2.2.1 141 i.toNatClampNeg = sI τm 141 i := fun i => rfl
  have e142 : ∀ i : Int32, (md_pi τm 143 (sF τm 143 - 1)).2.2.2 142 i.toNatClampNeg = sJ τm 142 i := fun i => rfl
  rw [xx6_setGlobal, (rd_r S x0 xR).1, bd_so, (rd_r S x0 xR).2, bd_so, if_pos l0, xx6_setGlobal_b25, if_pos l0, xx6_setGlobal_b50, bx_me (fun z => rfl), xx6_putIn] at hx
  rw [lt, show τm.1 143 = sF τm 143 from rfl, show (md_pi τm 143 (sF τm 143 - 1)).1 143 = sF τm 143 - 1 from rfl, gd_in (by decide) t2.1 t2.2, gd_in (by decide) t2.1 t2.2, act_b, mm_store_2, e141, e142] at hm
  rcases store_2 (μ := μ) C zk1 vs v (lo_S hk L) (LV_S S2 V) t2.1 B2 (eN e) 0 (by decide) (by decide) (N_100 C.1.1) _ _ _ _ _ vt S2 rfl LL with ⟨σ', μ', i1, i2, S3⟩ | G2
  · exact Good_2 A (hx.trans i1) (hm.trans i2) (GK_lo G S3.1 L)
  · exact good_G A hx hm G2
/-- a place is gone, and its register is nil -/
theorem gone_S {e : EV} {w : WD} {xf : Int32 → List Int32} {c d : Int32} {rest : PL2} {f : Int32} {fl : List Int32} {ρ : List Int32} {g p q F n : Int32} {σ μ : mS} (S : ST e w xf c d rest f fl ρ (-1) g p q F n σ μ) (z : zk e g ρ) {j : Nat} (hj : j < ρ.length) {r : Int32} (r0 : 0 ≤ r) (hr : ρ.getD j 0 = -1) (ok : okr ρ r 1 (sI (eσ e) 261 g)) {N : Nat} : xx6_set N σ r 0 0 = some (xS σ (sI σ 347 f + r) 0 0) ∧ ST e w xf c d rest f fl (ρ.set j (-10000 - r)) (-1) g p q F n (xS σ (sI σ 347 f + r) 0 0) μ ∧ zk e g (ρ.set j (-10000 - r)) ∧ ∀ s, 0 ≤ s → s ≤ 2600 → s ≠ r → xt (xS σ (sI σ 347 f + r) 0 0) f s = xt σ f s ∧ xv (xS σ (sI σ 347 f + r) 0 0) f s = xv σ f s := by
  obtain ⟨s1, S1, ⟨s2, s3⟩, s4⟩ := set_1 (N := N) (t := 0) (v := 0) S z ok (by decide) (by decide)
  refine ⟨s1, ⟨PT_ren S1.1 z.1 (by simp) (fun l hl t v rv => ?_), S1.2⟩, ⟨by rw [List.length_set]; exact z.1, fun x hx => ?_⟩, s4⟩
  · rw [set_at hl]
    by_cases c : l = j
    · rw [if_pos c]
      rw [c, hr] at rv
      have t0 : t = 0 := by
        rcases rv with ⟨_, h⟩ | ⟨h, _⟩ | ⟨h, _⟩ | ⟨h, _⟩ | ⟨h, _⟩
        · exact h
        · exact absurd h (by decide)
        · exact absurd h (by decide)
        · exact absurd h (by decide)
        · exact absurd h (by decide)
      exact RV_gone r0 ok.2.1 t0 s2
    · rw [if_neg c]; exact rv
  · rcases List.mem_or_eq_of_mem_set hx with h | h
    · exact z.2 x h
    · rw [h, dc_h r0 (by have := ok.2.1; lia)]
      have := ok.2.2.2.2.1
      have := ok.2.1
      have := ok.1
      lia
theorem xrr_1 {live : Int32} (h : live < 0) : ¬ 0 ≤ live := Int32.not_le.mpr h
/-- SET_GLOBAL of several: the value goes -/
theorem r_setg2 {e : EV} {w : WD} {xf : Int32 → List Int32} {c d : Int32} {rest : PL2} {f : Int32} {fl : List Int32} {ρ : List Int32} {g p q F n : Int32} {σ μ : mS} {M rk : Nat} {x live : Int32} (C : CXT e M F n rk) (hk : rk ≤ 2000000) (A : PT e w xf c d rest f fl ρ (-1) g p q F n σ μ) (z : eZ e rk g p q ρ (-1)) (ho : opx e p 12) (ha : acm e q 14) (ln : lin e p q) (h1 : (nx e (p + 1), sI (eμ e) 71 q) ∈ eX' e) (h2 : nx e (p + 2) = x) (h3 : nx e (p + 3) = live) (l0 : live < 0) (x0 : 0 ≤ x) {k : Nat} (hk' : k < ρ.length) (hx' : ρ.getD k 0 = x) (hw : sI (eμ e) 73 q = Int32.ofNat k) (ok : okr (ρ.set k (-1)) x 1 (sI (eσ e) 261 g)) (V : lvS e g (ρ.set k (-10000 - x)) (live ^^^ -1)) (L : lo e rk g (p + 4) (q + 1) (ρ.set k (-10000 - x)) (-1)) : Good e (M + 3000) σ μ := by
  obtain ⟨E, hM, Z, _, _, G, _, _⟩ := id C
  have hx := PT_x A ho (fun s => rfl)
  have S := PT_s A 4
  have LL := PT_LE (k := 0) A ho ln 4
  have o := ops_1 ho.1.1 ho.1.2
  have e3 : mff (actP μ (n - 1) q) (n - 1) 3 = mff μ (n - 1) 3 := mf_I actP_fr rfl
  have hm := act_f A ha
  have iq := (act_k A ha).1
  have k73 := (aP_70 S.1 q).2
  rw [hw] at k73
  rw [af_14, ← e3, iq, gd_tt, k73, lt] at hm
  have h256 := fun i => xP_256 S.1 i
  rw [sf_12, gd_in (by decide) o.1.1 o.1.2, gd_in (by decide) o.2.1.1 o.2.1.2, gd_in (by decide) o.2.2.1.1 o.2.2.1.2, rare_s, h256, h256, h256, h2, h3] at hx
  clear e3
  generalize xP σ f p 4 = τ at hx S h256 LL
  generalize actP μ (n - 1) q = τm at hm S LL k73
  have zk0 := zk_of Z z
  obtain ⟨g1, g2, g3, g4, g5⟩ := PT_at S.1 zk0.1
  have bk := (g5 k (by omega) 0 (by omega)).1
  have rv := g1 k hk'
  rw [hx'] at rv
  have v := RV_V rv x0
  have xR := zk_reg zk0 (by have := i_rho hk'; rw [hx'] at this; exact this) x0
  obtain ⟨q1, A1⟩ := gone_m1 (N := eN e) S.1 zk0.1 hk'
  have S1 : ST e w xf c d rest f fl (ρ.set k (-1)) (-1) g (p + 4) (q + 1) F n τ (md_ai τm 141 (mff τm (n - 1) 3 + Int32.ofNat k).toNatClampNeg 0) := ⟨A1, S.2⟩
  have zk1 : zk e g (ρ.set k (-1)) := ⟨by rw [List.length_set]; exact zk0.1, fun y hy => by
    rcases List.mem_or_eq_of_mem_set hy with h | h
    · exact zk0.2 y h
    · rw [h]
      have := MR0_f S.1.1.1
      rw [PT_R S.1] at this
      exact Int32.lt_of_lt_of_le (by decide) (Int32.le_of_lt this.2.1.1)⟩
  obtain ⟨s1, S2, zk2, s4⟩ := gone_S (N := eN e) S1 zk1 (j := k) (by rw [List.length_set]; exact hk') x0 (by rw [set_at hk', if_pos rfl]) ok
  rw [List.set_set] at S2 zk2
  have H0 := S.1.1.1
  have ho395 := H0.1.2.2.1.2.2.2.2.2.2.1
  have vs : VV w 4 (Int32.toInt64 (nx e (p + 1))) 3 (Int32.toInt64 (sI (eμ e) 71 q)) := .inr (.inr (.inr (.inr (.inl ⟨rfl, rfl, _, _, rfl, rfl, .inr (H0.2.1.2.2.1 _ h1)⟩))))
  have vt : VV w 5 (Int32.toInt64 (sF τ 395)) 4 (Int32.toInt64 (sF τm 191)) := VV_tn ho395
  rw [xx6_setGlobal, (rd_r S x0 xR).1, bd_so, (rd_r S x0 xR).2, bd_so, if_neg (xrr_1 l0), s1, bd_so, xx6_setGlobal_b25, if_neg (xrr_1 l0), xx6_setGlobal_b50, bx_me (fun z => rfl), xx6_putIn] at hx
  have m1 : τm.2.2.1 141 (mff τm (n - 1) 3 + Int32.ofNat k).toNatClampNeg = sI τm 141 (mff τm (n - 1) 3 + Int32.ofNat k) := rfl
  have m2 : ∀ t, (md_ai τm 141 (mff τm (n - 1) 3 + Int32.ofNat k).toNatClampNeg t).2.2.2 142 (mff τm (n - 1) 3 + Int32.ofNat k).toNatClampNeg = sJ τm 142 (mff τm (n - 1) 3 + Int32.ofNat k) := fun _ => rfl
  rw [gd_in (by decide) bk.1 bk.2, m1, lt, q1, bd_so, gd_in (by decide) bk.1 bk.2, m2, act_b, mm_store_2] at hm
  have N := (PT_N S.1).2.2.1
  have tp := tp_1 (n := ρ.length) zk0.1 N.1 N.2
  have B2 : mff τm (n - 1) 3 + Int32.ofNat ρ.length ≤ 480000 := by
    have h0 := oN_bd (n := ρ.length) zk0.1
    have n1 := N.1
    have n2 := N.2
    clear hx hm h256 LL v g1 g5
    lia
  rcases store_2 (μ := μ) C zk2 vs v (lo_S hk L) (LV_S S2 V) tp.1 B2 (eN e) 0 (by decide) (by decide) (N_100 C.1.1) _ _ _ _ _ vt S2 g2 (LE_fr (Q := fun k => [141].contains k) LL xS_f (mf_ai mf_rfl rfl) rfl rfl rfl) with ⟨σ', μ', i1, i2, S3⟩ | G2
  · exact Good_2 A (hx.trans i1) (hm.trans i2) (GK_lo G S3.1 L)
  · exact good_G A hx hm G2
