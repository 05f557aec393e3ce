/-! LAYER 2: step rules: TAIL -/
theorem tl_b {B l : Int32} (B0 : 0 ≤ B) (B1 : B ≤ 460000) (l0 : 0 ≤ l) (l1 : l ≤ 2000) : 0 ≤ B + l ∧ B + l ≤ 480000 ∧ B ≤ B + l := ⟨by lia, by lia, by lia⟩
/-- TAIL, LAST_CALL -/
theorem r_tail {e : EV} {w : WD} {xf : Int32 → List Int32} {c d : Int32} {rest : PL2} {f : Int32} {fl : List Int32} {g p q F n : Int32} {σ μ : mS} {M rk : Nat} {ρ0 : List Int32} {r nn : Int32} (C : CXT e M F n rk) (A : PT e w xf c d rest f fl (ρ0 ++ rng r (nn + 1)) (-1) g p q F n σ μ) (z : eZ e rk g p q (ρ0 ++ rng r (nn + 1)) (-1)) (ho : opx e p 25) (ha : acm e q 33) (ln : lin e p q) (h1 : nx e (p + 1) = r) (h2 : nx e (p + 2) = nn) (hn : sI (eμ e) 71 q = nn) (h73 : sI (eμ e) 73 q ≠ 1) (r0 : 0 ≤ r) (r1 : r ≤ 2500) (n0 : 0 ≤ nn) (n1 : nn ≤ 145) : Good e (M + 3000) σ μ := by
  obtain ⟨E, hM, Z, _, _, G, _, _⟩ := id C
  have hx := PT_x A ho (fun s => rfl)
  have S := PT_s A 3
  have LL := PT_LE (k := 0) A ho ln 3
  have o := ops_1 ho.1.1 ho.1.2
  have hm := act_f A ha
  have iq := (act_k A ha).1
  have k73 := (aP_70 S.1 q).2
  rw [af_33, act_g A ha, mf_33, act_b, hn, iq, gd_tt, k73, if_neg h73, mm_actMore_536, more_b, show nn + 0 = nn from by lia] at hm
  clear k73
  have h256 := fun i => xP_256 S.1 i
  rw [sf_25c, gd_in (by decide) o.1.1 o.1.2, gd_in (by decide) o.2.1.1 o.2.1.2, h256, h256, h1, h2, xx6_gather, if_pos n0, xx6_gather_b24, lt, lt] at hx
  generalize xP σ f p 3 = τ at hx S LL
  generalize actP μ (n - 1) q = τm at hm S LL
  clear h256
  have zk0 := zk_of Z z
  have hl := zk0.1
  rw [List.length_append] at hl
  have N := (PT_N S.1).2.2.1
  have T := S.1.1.2
  rw [S.1.2.2.2.2.2] at T
  obtain ⟨T1, T2⟩ := TP_1 T
  obtain ⟨_, T4⟩ := RG_app.mp T1
  have c4 := cl_4 n0 n1
  have vv := RG_rng' r0 (Int32.le_trans r1 (by decide)) c4.2.1 T4
  have top : sF τm 143 = mff τm (n - 1) 3 + Int32.ofNat ρ0.length + nn + 1 := by
    rw [T2, List.length_append, rng_len, ← oN_add, oN_cl' c4.1, ← Int32.add_assoc]
    exact cl_1.1
  have bl := oN_bd (n := ρ0.length) (by omega)
  have Pb := tl_b N.1 N.2 bl.1 bl.2
  generalize eP : mff τm (n - 1) 3 + Int32.ofNat ρ0.length = P at *
  have R9 := (PT_k S.1 zk0).2.2.2.2.1.1
  have hR : ∀ k, 0 ≤ k → k < nn + 1 → r + k < sI τ 349 f := fun k k0 k1 => by
    have m := zk0.2 (r + k) (List.mem_append_right _ (rng_in k0 k1))
    rw [dc_p (ga_nn' r0 r1 k0 k1 n1)] at m
    exact Int32.lt_of_lt_of_le m R9
  have v0 := vv 0 (by decide) c4.2.2
  rw [show r + 0 = r from by lia, show P + 0 = P from by lia] at v0
  have rT := hR 0 (by decide) c4.2.2
  rw [show r + 0 = r from by lia] at rT
  have c5 := cl_5 r0 r1
  obtain ⟨υ, u1, fr, GG⟩ := tail_S (r := r + 1) C S LL Pb.1 Pb.2.1 Pb.2.2 n0 n1 c5.1 c5.2 (fun k k0 k1 => by
    have k' := cl_2 k0 k1 n1
    have := hR (k + 1) k'.1 k'.2
    rw [cl_3] at this
    exact this) top v0 (fun k k0 k1 => by
    have k' := cl_2 k0 k1 n1
    have := vv (k + 1) k'.1 k'.2
    rw [cl_3, cl_3] at this
    exact this)
  rw [u1, bd_so, tailK_x S fr ho.1 h1 r0 rT] at hx
  exact good_G A hx hm GG
/-- TAIL, with an open end -/
theorem r_tailm {e : EV} {w : WD} {xf : Int32 → List Int32} {c d : Int32} {rest : PL2} {f : Int32} {fl : List Int32} {g p q F n : Int32} {σ μ : mS} {M rk : Nat} {ρ0 : List Int32} {r k0 : Int32} (C : CXT e M F n rk) (A : PT e w xf c d rest f fl (ρ0 ++ rng r (k0 + 1)) (r + k0 + 1) g p q F n σ μ) (z : eZ e rk g p q (ρ0 ++ rng r (k0 + 1)) (r + k0 + 1)) (ho : opx e p 25) (ha : acm e q 33) (ln : lin e p q) (h1 : nx e (p + 1) = r) (h2 : nx e (p + 2) = -1) (hn : sI (eμ e) 71 q = k0) (h73 : sI (eμ e) 73 q = 1) (r0 : 0 ≤ r) (r1 : r ≤ 2300) (k00 : 0 ≤ k0) (k01 : k0 ≤ 45) (hR : r + k0 + 1 + 100 ≤ sI (eσ e) 261 g) : Good e (M + 3000) σ μ := by
  obtain ⟨E, hM, Z, _, _, G, _, _⟩ := id C
  have hx := PT_x A ho (fun s => rfl)
  have S := PT_s A 3
  have LL := PT_LE (k := 0) A ho ln 3
  have o := ops_1 ho.1.1 ho.1.2
  have hm := act_f A ha
  have iq := (act_k A ha).1
  have k73 := (aP_70 S.1 q).2
  have f01 := (PT_N A).1
  have kk01 := (PT_N A).2.1
  rw [af_33, act_g A ha, mf_33, act_b, hn, iq, gd_tt, k73, if_pos h73, gd_in (by decide) kk01.1 kk01.2, mm_actMore_536, more_b] at hm
  clear k73
  have h256 := fun i => xP_256 S.1 i
  rw [sf_25c, gd_in (by decide) o.1.1 o.1.2, gd_in (by decide) o.2.1.1 o.2.1.2, h256, h256, h1, h2, xx6_gather, if_neg (by decide)] at hx
  generalize xP σ f p 3 = τ at hx S LL
  generalize actP μ (n - 1) q = τm at hm S LL
  clear h256
  have e411 : τ.1 411 = f := S.2.2
  have om := om_1 r0 r1 k00 k01 (c := 0) (by decide) (by decide)
  have zk0 := zk_of Z z
  have hl := zk0.1
  rw [List.length_append] at hl
  have N := (PT_N S.1).2.2.1
  have T := S.1.1.2
  rw [S.1.2.2.2.2.2] at T
  obtain ⟨cc, c0, c1, T1, T2, T3, T4, T5⟩ := TP_m om.1 T
  obtain ⟨_, T6⟩ := RG_app.mp T1
  have om := om_1 r0 r1 k00 k01 c0 c1
  have e354 : τ.2.2.1 354 f.toNatClampNeg = r + 1 + (k0 + cc) := T4.trans om.2.2.2.2.2.2.2.1
  have e153 : τm.2.2.1 153 (n - 1).toNatClampNeg = cc := T5
  rw [e411, gd_in (by decide) f01.1 f01.2, e354, xx6_gather_b24, lt, lt] at hx
  rw [e153] at hm
  have vv := RG_rng' r0 (Int32.le_trans r1 (by decide)) om.2.2.2.1 T6
  have ww := RG_rng' om.1 (Int32.le_trans om.2.1 (by decide)) (Int32.le_trans c1 (by decide)) T2
  have eL : mff τm (n - 1) 3 + Int32.ofNat (ρ0 ++ rng r (k0 + 1)).length = mff τm (n - 1) 3 + Int32.ofNat ρ0.length + (k0 + 1) := by
    rw [List.length_append, rng_len, ← oN_add, oN_cl' om.2.2.1, ← Int32.add_assoc]
  rw [eL] at ww T3
  have bl := oN_bd (n := ρ0.length) (by omega)
  have Pb := tl_b N.1 N.2 bl.1 bl.2
  generalize eP : mff τm (n - 1) 3 + Int32.ofNat ρ0.length = P at *
  have top : sF τm 143 = P + (k0 + cc) + 1 := T3.trans om_5.1
  have R9 := (PT_k S.1 zk0).2.2.2.2.1.1
  have v0 := vv 0 (by decide) om.2.2.2.2.1
  rw [show r + 0 = r from by lia, show P + 0 = P from by lia] at v0
  have rT : r < sI τ 349 f := by
    have m := zk0.2 (r + 0) (List.mem_append_right _ (rng_in (by decide) om.2.2.2.2.1))
    rw [show r + 0 = r from by lia, dc_p r0] at m
    exact Int32.lt_of_lt_of_le m R9
  obtain ⟨υ, u1, fr, GG⟩ := tail_S (r := r + 1) C S LL Pb.1 Pb.2.1 Pb.2.2 om.2.2.2.2.2.1 om.2.2.2.2.2.2.1 om.2.2.2.2.2.2.2.2.1 om.2.2.2.2.2.2.2.2.2 (fun k i0 i1 => Int32.lt_of_lt_of_le (om_2 r0 r1 k00 k01 c0 c1 hR i0 i1) R9) top v0 (fun k i0 i1 => by
    by_cases ck : k < k0
    · have k' := om_3 i0 ck k01
      have := vv (k + 1) k'.1 k'.2
      rw [cl_3, cl_3] at this
      exact this
    · have k' := om_4 (r := r) (P := P) k00 (Int32.not_lt.mp ck) k01 c0 c1 i1
      have := ww (k - k0) k'.1 k'.2.1
      rw [k'.2.2.1, k'.2.2.2] at this
      exact this)
  rw [u1, bd_so, tailK_x S fr ho.1 h1 r0 rT] at hx
  exact good_G A hx hm GG
