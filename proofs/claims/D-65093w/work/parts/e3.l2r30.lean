/-! LAYER 2: step rules: a loop's test; the values behind the named ones -/
theorem copy_S {e : EV} {w : WD} {xf : Int32 → List Int32} {c d : Int32} {rest : PL2} {f : Int32} {fl : List Int32} {ρ : List Int32} {m : Int32} {g p q F n : Int32} {σ μ : mS} (S : ST e w xf c d rest f fl ρ m g p q F n σ μ) {r s : Int32} (r0 : 0 ≤ r) (r1 : r < sI (eσ e) 261 g) (s0 : 0 ≤ s) (s1 : s < sI σ 349 f) (t0 : 0 ≤ xt σ f s) (t1 : xt σ f s ≤ 8) {N : Nat} : xx6_copy N σ r s = some (xS σ (sI σ 347 f + r) (xt σ f s) (xv σ f s)) := by
  have b := MR0_f S.1.1.1
  rw [PT_R S.1] at b
  have I := rg_i2 b.2.2.1.1 b.2.2.1.2.2.1 b.2.2.1.2.1 b.2.2.1.2.2.2 s0 s1
  have J := rg_i2 b.2.2.1.1 b.2.2.1.2.2.1 b.2.2.1.2.1 b.2.2.1.2.2.2 r0 (Int32.lt_of_lt_of_le r1 b.2.1.2.2)
  have e410 : σ.1 410 = sI σ 347 f := S.2.1
  have nb : vp_nar .byte (σ.2.2.1 364 (sI σ 347 f + s).toNatClampNeg) = xt σ f s := tag_b t0 t1
  rw [xx6_copy, e410, gd_in (by decide) I.1 I.2, gd_in (by decide) J.1 J.2, nb, lt]
  rw [show (md_ai σ 364 (sI σ 347 f + r).toNatClampNeg (xt σ f s)).1 410 = sI σ 347 f from e410, gd_in (by decide) I.1 I.2, gd_in (by decide) J.1 J.2, lt]
  rfl
theorem p3_1 {P : Int32} {j : Nat} : P + Int32.ofNat j + 3 = P + Int32.ofNat (j + 3) ∧ P + Int32.ofNat (j + 3) - 1 = P + Int32.ofNat (j + 2) := by
  have h1 : P + Int32.ofNat j + 1 = P + Int32.ofNat (j + 1) := b_p1
  have h2 : P + Int32.ofNat (j + 1) + 1 = P + Int32.ofNat (j + 2) := b_p1
  have h3 : P + Int32.ofNat (j + 2) + 1 = P + Int32.ofNat (j + 3) := b_p1
  refine ⟨by rw [← h3, ← h2, ← h1]; lia, by rw [← h3]; lia⟩
theorem set_same {ρ : List Int32} {j : Nat} {x : Int32} (hj : j < ρ.length) (h : ρ.getD j 0 = x) : ρ.set j x = ρ := by
  apply List.ext_getElem?
  intro i
  rw [List.getElem?_set]
  by_cases c : j = i
  · subst c
    rw [if_pos rfl, if_pos hj, ← h, List.getD_eq_getElem?_getD, List.getElem?_eq_getElem hj]
    rfl
  · rw [if_neg c]
/-- EACH_TEST -/
theorem r_etest {e : EV} {w : WD} {xf : Int32 → List Int32} {c d : Int32} {rest : PL2} {f : Int32} {fl : List Int32} {ρ : List Int32} {g p q F n : Int32} {σ μ : mS} {M rk : Nat} {a : Int32} {j : Nat} (Z : ZRok e) (G : GK e M F n rk) (A : PT e w xf c d rest f fl ρ (-1) g p q F n σ μ) (z : eZ e rk g p q ρ (-1)) (ho : opx e p 32) (ha : acm e q 40) (h1 : nx e (p + 1) = a) (a0 : 0 ≤ a) (a25 : a ≤ 2490) (hj : j + 3 < ρ.length) (s2 : ρ.getD (j + 2) 0 = a + 2) (s3 : ρ.getD (j + 3) 0 = a + 3) (hu : ∀ i, i < ρ.length → i ≠ j + 2 → dc (ρ.getD i 0) ≠ a + 2) (hv : sI (eμ e) 72 q = Int32.ofNat j) (L1 : lo e rk g (p + 3) (q + 1) ρ (-1)) (L2 : lo e rk g (nx e (p + 2)) (sI (eμ e) 71 q) ρ (-1)) : Good e (M + 3000) σ μ := by
  have hx := PT_x A ho (fun s => rfl)
  have S := PT_s A 3
  have o := ops_1 ho.1.1 ho.1.2
  have e3 : mff (actP μ (n - 1) q) (n - 1) 3 = mff μ (n - 1) 3 := mf_I actP_fr rfl
  have hm := act_f A ha
  rw [af_40, act_g A ha, mf_40, act_b, hv, ← e3, lt, p3_1.1] at hm
  have h256 := fun i => xP_256 S.1 i
  obtain ⟨k1, xa, xl⟩ := rare_k (N := eN e) (k := 32) ho.1.1 ho.1.2 h256
  rw [sf_32, rare_s, k1, rf_32, xa, xl, h1] at hx
  clear k1 e3
  have f01 := (PT_N A).1
  have k01 := (PT_N A).2.1
  generalize xP σ f p 3 = τ at hx S h256
  generalize actP μ (n - 1) q = τm at hm S
  have zk0 := zk_of Z z
  obtain ⟨g1, g2, g3, g4, g5⟩ := PT_at S.1 zk0.1
  have b3 := (g5 (j + 3) (by omega) 0 (by omega)).1
  have B2 := g5 (j + 2) (by omega) 0 (by omega)
  have b2 := B2.1
  have v3 := g1 (j + 3) hj
  have a10 : 0 ≤ a + 2 ∧ 0 ≤ a + 3 := by clear g1 g5 v3 hx hm h256 hu; exact ⟨by lia, by lia⟩
  have m2 : a + 2 ∈ ρ := by have := i_rho (ρ := ρ) (j := j + 2) (by omega); rw [s2] at this; exact this
  have m3 : a + 3 ∈ ρ := by have := i_rho hj; rw [s3] at this; exact this
  have a2R := zk_reg zk0 m2 a10.1
  have a3R := zk_reg zk0 m3 a10.2
  rw [s3] at v3
  have w3 := RV_V v3 a10.2
  have t8 := VV_t8 w3
  have c3 := (VV_t w3).1
  have q141 : ∀ i : Int32, τm.2.2.1 141 i.toNatClampNeg = sI τm 141 i := fun i => rfl
  have e411 : τ.1 411 = f := S.2.2
  have hq146 : sI τm 146 (n - 1) = q + 1 := g4
  rw [(rd_r S a10.2 a3R).1, bd_so] at hx
  rw [gd_in (by decide) b3.1 b3.2, q141] at hm
  by_cases t : xt τ f (a + 3) = 0
  · rw [if_pos t, gd_tt, gd_in (by decide) o.2.1.1 o.2.1.2, e411, gd_in (by decide) f01.1 f01.2, h256, lt] at hx
    rw [if_pos (c3.mp t), gd_in (by decide) k01.1 k01.2, lt] at hm
    exact Good_2 A hx hm (GK_lo G (PT_jm (PT_go S.1 _) _) L2)
  · have cp := copy_S (N := eN e) S a10.1 a2R a10.2 (Int32.lt_of_lt_of_le a3R (PT_k S.1 zk0).2.2.2.2.1.1) t8.1.1 t8.1.2
    rw [if_neg t, cp, bd_so] at hx
    have nb : vp_nar .byte (sI τm 141 (mff τm (n - 1) 3 + Int32.ofNat (j + 3))) = sI τm 141 (mff τm (n - 1) 3 + Int32.ofNat (j + 3)) := tag_b t8.2.1 t8.2.2
    rw [if_neg (fun k => t (c3.mpr k)), gd_in (by decide) b3.1 b3.2, p3_1.2, gd_in (by decide) b2.1 b2.2, nb, lt, gd_in (by decide) b3.1 b3.2, gd_in (by decide) b2.1 b2.2, lt] at hm
    have fr : m_fr (fun k => [141, 142].contains k) τm (mW τm (mff τm (n - 1) 3 + Int32.ofNat (j + 2)) (sI τm 141 (mff τm (n - 1) 3 + Int32.ofNat (j + 3))) (sJ τm 142 (mff τm (n - 1) 3 + Int32.ofNat (j + 3)))) := mW_fr
    obtain ⟨_, _, u2⟩ := upd_S (N := eN e) (x' := a + 2) S zk0 (j := j + 2) (by omega) a10.1 a2R t8.1.1 t8.1.2 hu (fun τ h1 h2 => .inr (.inl ⟨a10.1, by rw [h1, h2]; exact w3⟩)) (mW_tc b2.1 B2.2.2.1) ((mf_I fr rfl).trans hq146) (mf_F fr rfl) (fun i hi => by
      have bi := g5 i (by omega) (j + 2) (by omega)
      rw [mW_I b2.1 bi.1.1, mW_J b2.1 bi.1.1]
      by_cases c : i = j + 2
      · rw [if_pos c, if_pos c, if_pos (bi.2.1.mpr c), if_pos (bi.2.1.mpr c)]; exact ⟨rfl, rfl⟩
      · rw [if_neg c, if_neg c, if_neg (fun q => c (bi.2.1.mp q)), if_neg (fun q => c (bi.2.1.mp q))]; exact ⟨rfl, rfl⟩)
    rw [set_same (by omega) s2] at u2
    exact Good_2 A (hx.trans rfl) (hm.trans rfl) (GK_lo G u2.1 L1)
theorem okr_s {ρ : List Int32} {r i cnt R : Int32} (ok : okr ρ r cnt R) (hR : R ≤ 2500) (i0 : 0 ≤ i) (i1 : i < cnt) : okr (ρ ++ rng r i) (r + i) 1 R := by
  obtain ⟨a1, a2, a3, a4, a5, a6⟩ := ok
  refine ⟨by lia, by lia, by decide, by decide, by lia, fun x hx => ?_⟩
  rcases List.mem_append.mp hx with h | h
  · rcases a6 x h with h | h
    · exact .inl (by lia)
    · exact .inr (by lia)
  · obtain ⟨k, k0, k1, rfl⟩ := rng_mem h
    rw [dc_p (by lia)]
    exact .inl (by lia)
theorem okr_le {ρ : List Int32} {r n n' R : Int32} (ok : okr ρ r n R) (n0 : 0 ≤ n') (h : n' ≤ n) (hR : R ≤ 2500) : okr ρ r n' R := by
  obtain ⟨a1, a2, a3, a4, a5, a6⟩ := ok
  refine ⟨a1, a2, n0, by lia, by lia, fun x hx => ?_⟩
  rcases a6 x hx with h | h
  · exact .inl h
  · exact .inr (by lia)
theorem zk_s {e : EV} {g : Int32} {ρ : List Int32} {r i cnt : Int32} (z : zk e g ρ) (ok : okr ρ r cnt (sI (eσ e) 261 g)) (hR : sI (eσ e) 261 g ≤ 2500) (i0 : 0 ≤ i) (i1 : i ≤ cnt) (hl : ρ.length + cnt.toNatClampNeg ≤ 2000) : zk e g (ρ ++ rng r i) := by
  obtain ⟨a1, a2, a3, a4, a5, a6⟩ := ok
  refine ⟨?_, fun x hx => ?_⟩
  · rw [List.length_append, rng_len]
    have e1 := tI_cl cnt
    have e2 := tI_cl i
    rw [tI_le] at i1 i0
    have z0 : (0 : Int32).toInt = 0 := rfl
    omega
  · rcases List.mem_append.mp hx with h | h
    · exact z.2 x h
    · obtain ⟨k, k0, k1, rfl⟩ := rng_mem h
      rw [dc_p (by lia)]
      lia
theorem v4_1 {x3 x4 x5 i : Int32} (h : x3 = x5 + 1 + x4) (h0 : 0 ≤ x5) (h1 : x3 ≤ 460000) (h4 : 0 ≤ x4) (h5 : x5 < x3) (i0 : 0 ≤ i) (i1 : i < x4) (h6 : x4 ≤ 100) : x3 - x4 + i = x5 + 1 + i ∧ (0 ≤ x5 + 1 + i ∧ x5 + 1 + i < 500000) := ⟨by lia, by lia, by lia⟩
theorem r_i2 {R i c T : Int32} (R0 : 0 < R) (R1 : R ≤ 2500) (i0 : 0 ≤ i) (i1 : i < c) (c1 : c ≤ 100) (h : T = R + c) : 0 ≤ R + i ∧ R + i < T := ⟨by lia, by lia⟩
/-- the values behind the named ones, one by one -/
theorem oth_lp {e : EV} {w : WD} {xf : Int32 → List Int32} {c d : Int32} {rest : PL2} {f : Int32} {fl : List Int32} {ρ : List Int32} {g p q F n : Int32} {σ μ : mS} {N : Nat} (zk0 : zk e g ρ) {r cnt B4 : Int32} (ok : okr ρ r cnt (sI (eσ e) 261 g)) (hl : ρ.length + cnt.toNatClampNeg ≤ 2000) (j : Nat) (i : Int32) (i0 : 0 ≤ i) (i1 : i ≤ cnt) (hj : (cnt.toInt - i.toInt).toNat < j) : ∀ τ τm, ST e w xf c d rest f fl (ρ ++ rng r i) (-1) g p q F n τ τm → mff τm (n - 1) 3 - mff τm (n - 1) 4 = B4 → ∃ υ υm, xx6_others_b46 N j r (sI (eσ e) 261 g) cnt i τ = some (md_ai υ 354 f.toNatClampNeg (r + cnt)) ∧ mm_rest_33 N j (n - 1) cnt B4 i τm = some (md_ai υm 153 (n - 1).toNatClampNeg cnt) ∧ ST e w xf c d rest f fl (ρ ++ rng r cnt) (-1) g p q F n υ υm := by
  induction j generalizing i with
  | zero => omega
  | succ j ih =>
    intro τ τm S hB
    have R25 : sI (eσ e) 261 g ≤ 2500 := by
      have := MR0_f S.1.1.1
      rw [PT_R S.1] at this
      exact this.2.1.2.1
    have f01 := (PT_N S.1).1
    have k01 := (PT_N S.1).2.1
    have e411 : τ.1 411 = f := S.2.2
    rw [xx6_others_b46, mm_rest_33]
    by_cases ci : cnt ≤ i
    · have ei : i = cnt := Int32.le_antisymm i1 ci
      subst ei
      rw [if_pos ci, if_pos ci, e411, gd_in (by decide) f01.1 f01.2, gd_in (by decide) k01.1 k01.2, lt, lt]
      exact ⟨τ, τm, rfl, rfl, S⟩
    · have ilt : i < cnt := Int32.not_le.mp ci
      have zki := zk_s zk0 ok R25 i0 i1 hl
      have ok1 := okr_s ok R25 i0 ilt
      have nn := i_nn i0 ilt ok.2.2.2.1
      have il := tI_lt.mp ilt
      have i31 : i < 2147483647 := Int32.lt_of_lt_of_le ilt (Int32.le_trans ok.2.2.2.1 (by decide))
      have es : ρ ++ rng r i ++ [r + i] = ρ ++ rng r (i + 1) := by rw [rng_s i0 i31, List.append_assoc]
      have FCx := S.1.1.1.2.2.2.2.2.1
      have b := MR0_f S.1.1.1
      rw [S.1.2.2.2.2.2] at FCx b
      obtain ⟨c1, c2, c3, c4, c5, c6, c7, c8, c9, c10, c11, c12, c13⟩ := FCx
      rw [PT_R S.1] at c9 c11
      have e348 : τ.2.2.1 348 f.toNatClampNeg = mff τm (n - 1) 4 := c7.1
      have e148 : τm.2.2.1 148 (n - 1).toNatClampNeg = mff τm (n - 1) 4 := rfl
      have k4 : ∀ t v, mff (mPu τm t v) (n - 1) 3 - mff (mPu τm t v) (n - 1) 4 = B4 := fun t v => by
        rw [← hB]; rfl
      rw [if_neg ci, if_neg ci, e411, gd_in (by decide) f01.1 f01.2, gd_in (by decide) k01.1 k01.2, e348, e148]
      by_cases cd : mff τm (n - 1) 4 ≤ i
      · obtain ⟨s1, p1, S1⟩ := push_1 (N := N) (N' := N) S zki ok1 (.inl ⟨rfl, rfl, rfl, rfl⟩)
        rw [if_pos cd, if_pos cd, s1, p1, bd_so, bd_so, xx6_others_b95, mm_rest_83, lt, lt]
        rw [es] at S1
        exact ih (i + 1) nn.1 nn.2.1 (by omega) _ _ S1 (k4 _ _)
      · have id4 : i < mff τm (n - 1) 4 := Int32.not_le.mp cd
        have V := v4_1 c8 b.2.2.2.2.1 b.2.2.2.2.2.2 c7.2.1 b.2.2.2.2.2.1 i0 id4 c7.2.2
        have RI := r_i2 c9.2.1 c9.2.2 i0 id4 c7.2.2 c9.1
        rw [← hB, V.1]
        have vv := RG_rng' (Int32.le_of_lt c9.2.1) (Int32.le_trans c9.2.2 (by decide)) (Int32.le_trans c7.2.2 (by decide)) c11 i i0 id4
        have t8 := VV_t8 vv
        obtain ⟨s1, p1, S1⟩ := push_1 (N := N) (N' := N) S zki ok1 vv
        have cp := copy_S (N := N) S ok1.1 (r_1 ok1.2.2.2.2.1 ok1.1 ok1.2.1 (z := 0)) RI.1 RI.2 t8.1.1 t8.1.2
        have q1 : τm.2.2.1 141 (mff τm (n - 1) 5 + 1 + i).toNatClampNeg = sI τm 141 (mff τm (n - 1) 5 + 1 + i) := rfl
        have q2 : τm.2.2.2 142 (mff τm (n - 1) 5 + 1 + i).toNatClampNeg = sJ τm 142 (mff τm (n - 1) 5 + 1 + i) := rfl
        rw [if_neg cd, if_neg cd, cp, gd_in (by decide) V.2.1 V.2.2, gd_in (by decide) V.2.1 V.2.2, q1, q2, p1, bd_so, bd_so, xx6_others_b95, mm_rest_83, lt, lt, hB]
        rw [es] at S1
        exact ih (i + 1) nn.1 nn.2.1 (by omega) _ _ S1 (k4 _ _)
