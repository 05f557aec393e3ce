/-! LAYER 2: step rules: RETURN -/
theorem ty_2 : xtx 2 = mtx 8 := by decide +kernel
theorem rt_3 {r nn : Int32} : r + nn - r = nn ∧ nn + 0 = nn := ⟨by lia, by lia⟩
theorem rt_4 {P nn : Int32} : P + nn - nn = P := by lia
/-- RETURN -/
theorem r_ret {e : EV} {w : WD} {xf : Int32 → List Int32} {c d : Int32} {rest : PL2} {f : Int32} {fl : List Int32} {g p q F n : Int32} {σ μ : mS} {M rk : Nat} {ρ0 : List Int32} {r nn : Int32} (C : CXT e M F n rk) (A : PT e w xf c d rest f fl (ρ0 ++ rng r nn) (-1) g p q F n σ μ) (z : eZ e rk g p q (ρ0 ++ rng r nn) (-1)) (ho : opx e p 26) (ha : acm e q 34) (ln : nn ≤ 100 ∨ lin e p q) (h1 : nx e (p + 1) = r) (h2 : nx e (p + 2) = nn) (hn : sI (eμ e) 71 q = nn) (h72 : sI (eμ e) 72 q ≠ 1) (r0 : 0 ≤ r) (r1 : r ≤ 2500) (n0 : 0 ≤ nn) : Good e (M + 3000) σ μ := by
  obtain ⟨E, hM, Z, _, _, G, _, _⟩ := id C
  have hx := PT_x A ho (fun s => rfl)
  have S := PT_s A 3
  have LL := fun ln => PT_LE (k := 0) A ho ln 3
  have o := ops_1 ho.1.1 ho.1.2
  have hm := act_f A ha
  rw [af_34, act_g A ha, mf_34, act_b, hn, if_neg h72, mm_actMore_563, more_b, (rt_3 (r := 0)).2, over_x] at hm
  have h256 := fun i => xP_256 S.1 i
  rw [sf_26, gd_in (by decide) o.1.1 o.1.2, gd_in (by decide) o.2.1.1 o.2.1.2, h256, h256, h1, h2, rare_s, xx6_giveBack, if_pos n0, xx6_giveBack_b22, rt_3.1] at hx
  clear h256
  generalize xP σ f p 3 = τ at hx S LL
  generalize actP μ (n - 1) q = τm at hm S LL
  by_cases c100 : nn ≤ 100
  · have zk0 := zk_of Z z
    have hl := zk0.1
    rw [List.length_append] at hl
    have T := S.1.1.2
    rw [S.1.2.2.2.2.2] at T
    obtain ⟨T1, T2⟩ := TP_1 T
    obtain ⟨_, T4⟩ := RG_app.mp T1
    have N := (PT_N S.1).2.2.1
    have bd0 := tp_1 (n := ρ0.length) (by omega) N.1 N.2
    have bl := oN_bd (n := ρ0.length) (by omega)
    have P1 : mff τm (n - 1) 3 + Int32.ofNat ρ0.length ≤ 480000 := by
      have n1 := N.1
      have n2 := N.2
      clear T1 T2 T4 T hx hm
      lia
    have vv := RG_rng' r0 (Int32.le_trans r1 (by decide)) (Int32.le_trans c100 (by decide)) T4
    have top : sF τm 143 = mff τm (n - 1) 3 + Int32.ofNat ρ0.length + nn := by
      rw [T2, List.length_append, rng_len, ← oN_add, oN_cl' n0, ← Int32.add_assoc]
    have R9 := (PT_k S.1 zk0).2.2.2.2.1.1
    have GG := ret_S C S bd0.1 P1 n0 c100 r0 (Int32.le_trans r1 (by decide)) (fun k k0 k1 => by
      have m := zk0.2 (r + k) (List.mem_append_right _ (rng_in k0 k1))
      rw [dc_p (ga_nn r0 (Int32.le_trans r1 (by decide)) k0 k1 (Int32.le_trans c100 (by decide)))] at m
      exact Int32.lt_of_lt_of_le m R9) vv
    rw [if_pos c100, xx6_clearGives, lt, bd_so] at hx
    rw [if_pos c100, show τm.1 143 = mff τm (n - 1) 3 + Int32.ofNat ρ0.length + nn from top, rt_4] at hm
    exact good_G A hx hm GG
  · rcases ln with ln | ln
    · exact absurd ln c100
    · rw [if_neg c100] at hx hm
      exact good_UO C A hx hm (UO_bd (fault_UO E (PT_UK S.1 (LL ln)) (t := 2) (tm := 8) (by decide) (by decide) ty_2 (by decide +kernel)) (fun z => rfl)) S.1.2.2.2.2.1 S.1.2.2.2.2.2
theorem ro_1 {r k0 c : Int32} (r0 : 0 ≤ r) (r1 : r ≤ 2300) (k00 : 0 ≤ k0) (k01 : k0 ≤ 2300) (c0 : 0 ≤ c) (c1 : c ≤ 100) (h : r + k0 ≤ 2400) : 0 ≤ r + k0 ∧ r + k0 ≤ 5000 ∧ 0 ≤ k0 + c ∧ r + k0 + c - r = k0 + c ∧ r + k0 + c = r + (k0 + c) := ⟨by lia, by lia, by lia, by lia, by lia⟩
theorem ro_2 {r k0 c R k : Int32} (r0 : 0 ≤ r) (r1 : r ≤ 2300) (k00 : 0 ≤ k0) (k01 : k0 ≤ 2300) (c0 : 0 ≤ c) (c1 : c ≤ 100) (hh : r + k0 ≤ 2400) (h : r + k0 + 100 ≤ R) (i0 : 0 ≤ k) (i1 : k < k0 + c) : r + k < R := by lia
theorem ro_4 {k k0 c r P : Int32} (k00 : 0 ≤ k0) (h : k0 ≤ k) (k01 : k0 ≤ 2300) (c0 : 0 ≤ c) (c1 : c ≤ 100) (i1 : k < k0 + c) : 0 ≤ k - k0 ∧ k - k0 < c ∧ r + k0 + (k - k0) = r + k ∧ P + k0 + (k - k0) = P + k := ⟨by lia, by lia, by lia, by lia⟩
theorem ro_5 {P k0 c : Int32} : P + k0 + c - (k0 + c) = P := by lia
/-- RETURN, with an open end -/
theorem r_retm {e : EV} {w : WD} {xf : Int32 → List Int32} {c d : Int32} {rest : PL2} {f : Int32} {fl : List Int32} {g p q F n : Int32} {σ μ : mS} {M rk : Nat} {ρ0 : List Int32} {r k0 : Int32} (C : CXT e M F n rk) (A : PT e w xf c d rest f fl (ρ0 ++ rng r k0) (r + k0) g p q F n σ μ) (z : eZ e rk g p q (ρ0 ++ rng r k0) (r + k0)) (ho : opx e p 26) (ha : acm e q 34) (ln : lin e p q) (h1 : nx e (p + 1) = r) (h2 : nx e (p + 2) = -1) (hn : sI (eμ e) 71 q = k0) (h72 : sI (eμ e) 72 q = 1) (r0 : 0 ≤ r) (r1 : r ≤ 2300) (k00 : 0 ≤ k0) (k01 : k0 ≤ 2300) (hrk : r + k0 ≤ 2400) (hR : r + k0 + 100 ≤ sI (eσ e) 261 g) : Good e (M + 3000) σ μ := by
  obtain ⟨E, hM, Z, _, _, G, _, _⟩ := id C
  have hx := PT_x A ho (fun s => rfl)
  have S := PT_s A 3
  have LL := PT_LE (k := 0) A ho ln 3
  have o := ops_1 ho.1.1 ho.1.2
  have f01 := (PT_N A).1
  have kk01 := (PT_N A).2.1
  have hm := act_f A ha
  rw [af_34, act_g A ha, mf_34, act_b, hn, if_pos h72, gd_in (by decide) kk01.1 kk01.2, mm_actMore_563, more_b] at hm
  have h256 := fun i => xP_256 S.1 i
  rw [sf_26, gd_in (by decide) o.1.1 o.1.2, gd_in (by decide) o.2.1.1 o.2.1.2, h256, h256, h1, h2, rare_s, xx6_giveBack, if_neg (by decide)] at hx
  clear h256
  generalize xP σ f p 3 = τ at hx S LL
  generalize actP μ (n - 1) q = τm at hm S LL
  have e411 : τ.1 411 = f := S.2.2
  have rm := ro_1 r0 r1 k00 k01 (c := 0) (by decide) (by decide) hrk
  have zk0 := zk_of Z z
  have hl := zk0.1
  rw [List.length_append] at hl
  have T := S.1.1.2
  rw [S.1.2.2.2.2.2] at T
  obtain ⟨cc, c0, c1, T1, T2, T3, T4, T5⟩ := TP_m rm.1 T
  obtain ⟨_, T6⟩ := RG_app.mp T1
  have rm := ro_1 r0 r1 k00 k01 c0 c1 hrk
  have e354 : τ.2.2.1 354 f.toNatClampNeg = r + k0 + cc := T4
  have e153 : τm.2.2.1 153 (n - 1).toNatClampNeg = cc := T5
  rw [e411, gd_in (by decide) f01.1 f01.2, e354, xx6_giveBack_b22, rm.2.2.2.1, rm.2.2.2.2] at hx
  rw [e153, over_x] at hm
  by_cases c100 : k0 + cc ≤ 100
  · have N := (PT_N S.1).2.2.1
    have bd0 := tp_1 (n := ρ0.length) (by omega) N.1 N.2
    have bl := oN_bd (n := ρ0.length) (by omega)
    have P1 : mff τm (n - 1) 3 + Int32.ofNat ρ0.length ≤ 480000 := by
      have n1 := N.1
      have n2 := N.2
      clear T1 T2 T3 T4 T5 T6 T hx hm e354 e153
      lia
    have vv := RG_rng' r0 (Int32.le_trans r1 (by decide)) (Int32.le_trans k01 (by decide)) T6
    have ww := RG_rng' rm.1 rm.2.1 (Int32.le_trans c1 (by decide)) T2
    have eL : mff τm (n - 1) 3 + Int32.ofNat (ρ0 ++ rng r k0).length = mff τm (n - 1) 3 + Int32.ofNat ρ0.length + k0 := by
      rw [List.length_append, rng_len, ← oN_add, oN_cl' k00, ← Int32.add_assoc]
    rw [eL] at ww T3
    have R9 := (PT_k S.1 zk0).2.2.2.2.1.1
    have GG := ret_S C S bd0.1 P1 rm.2.2.1 c100 r0 (Int32.le_trans r1 (by decide)) (fun k i0 i1 => Int32.lt_of_lt_of_le (ro_2 r0 r1 k00 k01 c0 c1 hrk hR i0 i1) R9) (fun k i0 i1 => by
      by_cases ck : k < k0
      · exact vv k i0 ck
      · have k' := ro_4 (r := r) (P := mff τm (n - 1) 3 + Int32.ofNat ρ0.length) k00 (Int32.not_lt.mp ck) k01 c0 c1 i1
        have := ww (k - k0) k'.1 k'.2.1
        rw [k'.2.2.1, k'.2.2.2] at this
        exact this)
    rw [if_pos c100, xx6_clearGives, lt, bd_so] at hx
    rw [if_pos c100, show τm.1 143 = mff τm (n - 1) 3 + Int32.ofNat ρ0.length + k0 + cc from T3, ro_5] at hm
    exact good_G A hx hm GG
  · rw [if_neg c100] at hx hm
    exact good_UO C A hx hm (UO_bd (fault_UO E (PT_UK S.1 LL) (t := 2) (tm := 8) (by decide) (by decide) ty_2 (by decide +kernel)) (fun z => rfl)) S.1.2.2.2.2.1 S.1.2.2.2.2.2
