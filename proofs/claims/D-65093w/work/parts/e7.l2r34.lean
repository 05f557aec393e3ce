/-! LAYER 2: step rules: CALL, with an open end -/
theorem PT_tm {e : EV} {w : WD} {xf : Int32 → List Int32} {c d : Int32} {rest : PL2} {f : Int32} {fl : List Int32} {m g p q F n : Int32} {σ μ : mS} {ρ0 l : List Int32} {P : Int32} (A : PT e w xf c d rest f fl (ρ0 ++ l) m g p q F n σ μ) (m0 : 0 ≤ m) (hP : P = mff μ (n - 1) 3 + Int32.ofNat ρ0.length) : PT e w xf c d rest f fl ρ0 (-1) g p q F n σ (md_pi μ 143 P) := by
  have T := A.1.2
  rw [A.2.2.2.2.2] at T
  have hq := A.2.2.2.1
  rw [A.2.2.2.2.2] at hq
  obtain ⟨n0, _, _, T1, _⟩ := TP_m m0 T
  have fr : m_fr (fun k => [143].contains k) μ (md_pi μ 143 P) := mf_pi mf_rfl rfl
  have e3 : mff (md_pi μ 143 P) (n - 1) 3 = mff μ (n - 1) 3 := mf_I fr rfl
  refine PT_mk A xtc_rfl m143_tc A.2.2.1 ((mf_I fr rfl).trans hq) (.inl ⟨rfl, ?_, ?_⟩)
  · rw [e3]
    exact RG_cg (RG_app.mp T1).1 wle_rfl (fun _ _ _ => ⟨rfl, rfl⟩) (fun _ _ => ⟨mf_I fr rfl, mf_J fr rfl⟩)
  · rw [e3, ← hP]; simp only [sF_pi, sF_pl, sF_ai, sF_al, sG_pi, sG_pl, sG_ai, sG_al, sI_pi, sI_pl, sI_al, sI_ai1, sI_ai2, sJ_pi, sJ_pl, sJ_ai, sJ_al1, sJ_al2, Nat.reduceEqDiff, if_true, if_false, ne_eq, not_false_eq_true, ite_true, ite_false]
theorem om_1 {r k0 c : Int32} (r0 : 0 ≤ r) (r1 : r ≤ 2300) (k00 : 0 ≤ k0) (k01 : k0 ≤ 45) (c0 : 0 ≤ c) (c1 : c ≤ 100) : 0 ≤ r + k0 + 1 ∧ r + k0 + 1 ≤ 2500 ∧ 0 ≤ k0 + 1 ∧ k0 + 1 ≤ 5000 ∧ 0 < k0 + 1 ∧ 0 ≤ k0 + c ∧ k0 + c ≤ 145 ∧ r + k0 + 1 + c = r + 1 + (k0 + c) ∧ 0 ≤ r + 1 ∧ r + 1 ≤ 3000 := ⟨by lia, by lia, by lia, by lia, by lia, by lia, by lia, by lia, by lia, by lia⟩
theorem om_2 {r k0 c R k : Int32} (r0 : 0 ≤ r) (r1 : r ≤ 2300) (k00 : 0 ≤ k0) (k01 : k0 ≤ 45) (c0 : 0 ≤ c) (c1 : c ≤ 100) (h : r + k0 + 1 + 100 ≤ R) (i0 : 0 ≤ k) (i1 : k < k0 + c) : r + 1 + k < R := by lia
theorem om_3 {k k0 : Int32} (i0 : 0 ≤ k) (h : k < k0) (k01 : k0 ≤ 45) : 0 ≤ k + 1 ∧ k + 1 < k0 + 1 := ⟨by lia, by lia⟩
theorem om_4 {k k0 c r P : Int32} (k00 : 0 ≤ k0) (h : k0 ≤ k) (k01 : k0 ≤ 45) (c0 : 0 ≤ c) (c1 : c ≤ 100) (i1 : k < k0 + c) : 0 ≤ k - k0 ∧ k - k0 < c ∧ r + k0 + 1 + (k - k0) = r + 1 + k ∧ P + (k0 + 1) + (k - k0) = P + 1 + k := ⟨by lia, by lia, by lia, by lia⟩
theorem om_5 {P k0 c : Int32} : P + (k0 + 1) + c = P + (k0 + c) + 1 ∧ P + (k0 + c) + 1 - (k0 + c) - 1 = P := ⟨by lia, by lia⟩
/-- CALL, with an open end -/
theorem r_callm {e : EV} {w : WD} {xf : Int32 → List Int32} {c d : Int32} {rest : PL2} {f : Int32} {fl : List Int32} {g p q F n : Int32} {σ μ : mS} {M rk : Nat} {ρ0 : List Int32} {r k0 want : Int32} (C : CXT e M F n rk) (hk : rk ≤ 2000000) (A : PT e w xf c d rest f fl (ρ0 ++ rng r (k0 + 1)) (r + k0 + 1) g p q F n σ μ) (z : eZ e rk g p q (ρ0 ++ rng r (k0 + 1)) (r + k0 + 1)) (ho : opx e p 24) (ha : acm e q 32) (ln : lin e p q) (h1 : nx e (p + 1) = r) (h2 : nx e (p + 2) = -1) (h3 : nx e (p + 3) = want) (hn : sI (eμ e) 71 q = k0) (hw : sI (eμ e) 72 q = want) (h73 : sI (eμ e) 73 q = 1) (r0 : 0 ≤ r) (r1 : r ≤ 2300) (k00 : 0 ≤ k0) (k01 : k0 ≤ 45) (hR : r + k0 + 1 + 100 ≤ sI (eσ e) 261 g) (V : lvS e g ρ0 r) (L : callC e rk g (p + 4) (q + 1) ρ0 r want) : Good e (M + 3000) σ μ := by
  obtain ⟨E, hM, Z, _, _, G, _, _⟩ := id C
  have hx := PT_x A ho (fun s => rfl)
  have S := PT_s A 4
  have LL := PT_LE (k := 0) A ho ln 4
  have o := ops_1 ho.1.1 ho.1.2
  have hm := act_f A ha
  have iq := (act_k A ha).1
  have k73 := (aP_70 S.1 q).2
  have f01 := (PT_N A).1
  have kk01 := (PT_N A).2.1
  rw [af_32, act_g A ha, mf_32, act_b, hn, hw, iq, gd_tt, k73, if_pos h73, gd_in (by decide) kk01.1 kk01.2, mm_actMore_488, lt, more_b] at hm
  clear k73
  have h256 := fun i => xP_256 S.1 i
  rw [sf_24c, gd_in (by decide) o.1.1 o.1.2, gd_in (by decide) o.2.1.1 o.2.1.2, h256, h256, h1, h2, xx6_gather, if_neg (by decide)] at hx
  generalize xP σ f p 4 = τ at hx S LL
  generalize actP μ (n - 1) q = τm at hm S LL
  clear h256
  have e411 : τ.1 411 = f := S.2.2
  have om := om_1 r0 r1 k00 k01 (c := 0) (by decide) (by decide)
  have zk0 := zk_of Z z
  have hl := zk0.1
  rw [List.length_append] at hl
  have T := S.1.1.2
  rw [S.1.2.2.2.2.2] at T
  obtain ⟨cc, c0, c1, T1, T2, T3, T4, T5⟩ := TP_m om.1 T
  obtain ⟨_, T6⟩ := RG_app.mp T1
  have om := om_1 r0 r1 k00 k01 c0 c1
  have e354 : τ.2.2.1 354 f.toNatClampNeg = r + 1 + (k0 + cc) := T4.trans om.2.2.2.2.2.2.2.1
  have e153 : τm.2.2.1 153 (n - 1).toNatClampNeg = cc := T5
  rw [e411, gd_in (by decide) f01.1 f01.2, e354, xx6_gather_b24, lt, lt] at hx
  rw [e153] at hm
  have vv := RG_rng' r0 (Int32.le_trans r1 (by decide)) om.2.2.2.1 T6
  have ww := RG_rng' om.1 (Int32.le_trans om.2.1 (by decide)) (Int32.le_trans c1 (by decide)) T2
  have eL : mff τm (n - 1) 3 + Int32.ofNat (ρ0 ++ rng r (k0 + 1)).length = mff τm (n - 1) 3 + Int32.ofNat ρ0.length + (k0 + 1) := by
    rw [List.length_append, rng_len, ← oN_add, oN_cl' om.2.2.1, ← Int32.add_assoc]
  rw [eL] at ww T3
  have A2 := PT_tm S.1 om.1 rfl
  generalize eP : mff τm (n - 1) 3 + Int32.ofNat ρ0.length = P at *
  have S2 : ST e w xf c d rest f fl ρ0 (-1) g (p + 4) (q + 1) F n τ (md_pi τm 143 P) := ⟨A2, S.2⟩
  have top : sF τm 143 = P + (k0 + cc) + 1 := T3.trans om_5.1
  have R9 := (PT_k S.1 zk0).2.2.2.2.1.1
  have v0 := vv 0 (by decide) om.2.2.2.2.1
  rw [show r + 0 = r from by lia, show P + 0 = P from by lia] at v0
  have rT : r < sI τ 349 f := by
    have m := zk0.2 (r + 0) (List.mem_append_right _ (rng_in (by decide) om.2.2.2.2.1))
    rw [show r + 0 = r from by lia, dc_p r0] at m
    exact Int32.lt_of_lt_of_le m R9
  obtain ⟨υ, u1, fr, GG⟩ := call_S (r := r + 1) (md := 0) (rg := r) (wt := want) (wn := want) (th := 0) (live := r) C S2 (by omega) eP.symm LL (LV_S S2 V) om.2.2.2.2.2.1 om.2.2.2.2.2.2.1 om.2.2.2.2.2.2.2.2.1 om.2.2.2.2.2.2.2.2.2 (fun k i0 i1 => Int32.lt_of_lt_of_le (om_2 r0 r1 k00 k01 c0 c1 hR i0 i1) R9) top v0 (fun k i0 i1 => by
    by_cases ck : k < k0
    · have k' := om_3 i0 ck k01
      have := vv (k + 1) k'.1 k'.2
      rw [cl_3, cl_3] at this
      exact this
    · have k' := om_4 (r := r) (P := P) k00 (Int32.not_lt.mp ck) k01 c0 c1 i1
      have := ww (k - k0) k'.1 k'.2.1
      rw [k'.2.2.1, k'.2.2.2] at this
      exact this) (callC_ct hk L)
  rw [u1, bd_so, callK_x S fr ho.1 h1 h3 r0 rT] at hx
  rw [show τm.1 143 = P + (k0 + cc) + 1 from top, om_5.2] at hm
  exact good_G A hx hm GG
