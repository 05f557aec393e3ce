/-! LAYER 2: step rules: RETURN -/
def gW (σ : mS) (k t : Int32) (v : Int64) : mS := md_pi (md_al (md_ai σ 400 k.toNatClampNeg t) 401 k.toNatClampNeg v) 402 (k + 1)
theorem gW_fr {σ : mS} {k t : Int32} {v : Int64} : m_fr vK σ (gW σ k t v) := mf_pi (mf_al (mf_ai mf_rfl rfl) rfl) rfl
theorem gW_402 {σ : mS} {k t : Int32} {v : Int64} : sF (gW σ k t v) 402 = k + 1 := by simp only [gW, sF_pi, sF_pl, sF_ai, sF_al, sG_pi, sG_pl, sG_ai, sG_al, sI_pi, sI_pl, sI_al, sI_ai1, sI_ai2, sJ_pi, sJ_pl, sJ_ai, sJ_al1, sJ_al2, Nat.reduceEqDiff, if_true, if_false, ne_eq, not_false_eq_true, ite_true, ite_false]
theorem gW_I {σ : mS} {k t i : Int32} {v : Int64} (k0 : 0 ≤ k) (i0 : 0 ≤ i) : sI (gW σ k t v) 400 i = if i = k then t else sI σ 400 i := by
  rw [show sI (gW σ k t v) 400 i = sI (md_ai σ 400 k.toNatClampNeg t) 400 i from rfl, sI_aj k0 i0]
theorem gW_J {σ : mS} {k t i : Int32} {v : Int64} (k0 : 0 ≤ k) (i0 : 0 ≤ i) : sJ (gW σ k t v) 401 i = if i = k then v else sJ σ 401 i := by
  rw [show sJ (gW σ k t v) 401 i = sJ (md_al (md_ai σ 400 k.toNatClampNeg t) 401 k.toNatClampNeg v) 401 i from rfl, sJ_lj k0 i0]
  rfl
theorem gO_x {N : Nat} {σ : mS} {k t : Int32} {v : Int64} (h : sF σ 402 = k) (k0 : 0 ≤ k) (k1 : k < 100) (t0 : 0 ≤ t) (t1 : t ≤ 8) : xx6_giveOne N σ t v = some (.ok (gW σ k t v)) := by
  have e : σ.1 402 = k := h
  have ne : ¬ k = 100 := fun q => by rw [q] at k1; exact Int32.lt_irrefl k1
  have k2 : k < 102 := Int32.lt_trans k1 (by decide)
  rw [xx6_giveOne, e, if_neg ne, gd_in (by decide) k0 k2, nar_tag t0 t1, lt]
  rw [show (md_ai σ 400 k.toNatClampNeg t).1 402 = k from h, gd_in (by decide) k0 k2, lt]
  rw [show (md_al (md_ai σ 400 k.toNatClampNeg t) 401 k.toNatClampNeg v).1 402 = k from h, lt]
  rfl
def gbE (N : Nat) (σ : mS) : Option (Except (Nat × mS) mS) := gd (inB ((σ.1 411)) 202) (lt ((σ.2.2.1 350 (Int32.toNatClampNeg ((σ.1 411))))) (fun x1 : Int32 => gd (inB ((σ.1 411)) 202) (lt ((σ.2.2.1 351 (Int32.toNatClampNeg ((σ.1 411))))) (fun x2 : Int32 => gd (inB ((σ.1 411)) 202) (lt ((σ.2.2.1 352 (Int32.toNatClampNeg ((σ.1 411))))) (fun x3 : Int32 => bd (xx5_pop N σ ((σ.1 339))) (fun z4 => bx (xx6_give N z4 x1 x2 x3) (fun z5 => some (Except.ok z5)))))))))
theorem gb_e {N j : Nat} {v3 v4 : Int32} {σ : mS} (h : v3 ≤ v4) : xx6_giveBack_b45 N (j + 1) v3 v4 σ = gbE N σ := by
  rw [xx6_giveBack_b45, if_pos h]; rfl
theorem gb_1 {r nn i : Int32} (r0 : 0 ≤ r) (r1 : r ≤ 3000) (n0 : 0 ≤ nn) (n1 : nn ≤ 100) (i0 : 0 ≤ i) (i1 : i ≤ nn) : (r + nn ≤ r + i ↔ nn ≤ i) ∧ r + i + 1 = r + (i + 1) := ⟨⟨fun h => by lia, fun h => by lia⟩, by lia⟩
/-- what is given is laid -/
theorem give_lp {N : Nat} {σ : mS} {f b r nn : Int32} (e410 : sF σ 410 = b) (e347 : sI σ 347 f = b) (hb : ∀ k, 0 ≤ k → k < nn → (0 ≤ b + (r + k) ∧ b + (r + k) < 560000) ∧ 0 ≤ xt σ f (r + k) ∧ xt σ f (r + k) ≤ 8) (n0 : 0 ≤ nn) (n1 : nn ≤ 100) (r0 : 0 ≤ r) (r1 : r ≤ 3000) (j : Nat) (i : Int32) (i0 : 0 ≤ i) (i1 : i ≤ nn) (hj : (nn.toInt - i.toInt).toNat < j) : ∀ τ, m_fr vK σ τ → sF τ 402 = i → (∀ k, 0 ≤ k → k < i → sI τ 400 k = xt σ f (r + k) ∧ sJ τ 401 k = xv σ f (r + k)) → ∃ υ, xx6_giveBack_b45 N j (r + nn) (r + i) τ = gbE N υ ∧ m_fr vK σ υ ∧ sF υ 402 = nn ∧ ∀ k, 0 ≤ k → k < nn → sI υ 400 k = xt σ f (r + k) ∧ sJ υ 401 k = xv σ f (r + k) := by
  induction j generalizing i with
  | zero => omega
  | succ j ih =>
    intro τ fr h402 hv
    have G1 := gb_1 r0 r1 n0 n1 i0 i1
    by_cases ci : nn ≤ i
    · have ei : i = nn := Int32.le_antisymm i1 ci
      subst ei
      exact ⟨τ, gb_e (Int32.le_refl _), fr, h402, hv⟩
    · have ilt : i < nn := Int32.not_le.mp ci
      have nn' := i_nn i0 ilt (Int32.le_trans n1 (by decide))
      obtain ⟨I, t8⟩ := hb i i0 ilt
      have e410' : τ.1 410 = b := (mf_F fr (k := 410) rfl).trans e410
      have q1 : τ.2.2.1 364 (b + (r + i)).toNatClampNeg = xt σ f (r + i) := by
        simp only [xt]; rw [e347]; exact mf_I fr (k := 364) rfl
      have q2 : τ.2.2.2 365 (b + (r + i)).toNatClampNeg = xv σ f (r + i) := by
        simp only [xv]; rw [e347]; exact mf_J fr (k := 365) rfl
      have i100 : i < 100 := Int32.lt_of_lt_of_le ilt n1
      have g1 := gO_x (N := N) (σ := τ) (k := i) (v := xv σ f (r + i)) h402 i0 i100 t8.1 t8.2
      rw [xx6_giveBack_b45, if_neg (fun h => ci (G1.1.mp h)), xx6_tag, e410', gd_in (by decide) I.1 I.2, q1, bd_so, xx6_value, e410', gd_in (by decide) I.1 I.2, q2, bd_so, g1, bx_so, lt, G1.2]
      have il := tI_lt.mp ilt
      refine ih (i + 1) nn'.1 nn'.2.1 (by omega) _ (mf_tr fr gW_fr) gW_402 (fun k k0 k1 => ?_)
      rw [gW_I i0 k0, gW_J i0 k0]
      by_cases ck : k = i
      · rw [if_pos ck, if_pos ck, ck]; exact ⟨rfl, rfl⟩
      · rw [if_neg ck, if_neg ck]
        exact hv k k0 (ga_lt k0 k1 ck i0 ilt (Int32.le_trans n1 (by decide)))
def overK (N : Nat) (k : Int32) (z1 : mS) : Option mS := lt (md_pi z1 154 (((z1.1 154) - 1))) (fun σ2 : mS => lt (md_pi σ2 155 (((σ2.1 155) - 1))) (fun σ3 : mS => gd (inB k 256) (lt (md_pi σ3 143 ((σ3.2.2.1 149 (Int32.toNatClampNeg k)))) (fun σ4 : mS => gd (inB k 256) (gd (inB k 256) (gd (inB k 256) (bd (mm_finish N σ4 ((σ4.2.2.1 149 (Int32.toNatClampNeg k))) ((σ4.2.2.1 150 (Int32.toNatClampNeg k))) ((σ4.2.2.1 151 (Int32.toNatClampNeg k)))) (fun z5 => some z5))))))))
theorem over_x {N : Nat} {σ : mS} {k a : Int32} : mm_over N σ k a = (if a ≤ 100 then bd (mm_gather N σ (((σ.1 143) - a)) a) (overK N k) else bd (mm_fault_2 N σ 8) (fun z6 => some z6)) := rfl
theorem rt_1 {n : Int32} (h1 : 1 ≤ n) (h2 : n ≤ 200) : 0 ≤ (n - 1).toInt ∧ (n - 1).toInt ≤ 199 := by
  have a : 0 ≤ n - 1 := by lia
  have b : n - 1 ≤ 199 := by lia
  exact ⟨tI_le.mp a, tI_le.mp b⟩
theorem rt_2 {n : Int32} (h0 : 1 ≤ n) (h : n ≤ 200) : n - 1 ≤ 256 := by lia
theorem pi3 {μ : mS} {a b c : Int32} : md_pi (md_pi (md_pi μ 154 a) 155 b) 143 c = md_pi (md_pi (md_pi μ 143 c) 154 a) 155 b := by
  refine Prod.ext ?_ rfl
  funext k
  simp only [pi_F]
  by_cases h1 : k = 143
  · subst h1; rfl
  · by_cases h2 : k = 155
    · subst h2; rfl
    · by_cases h3 : k = 154
      · subst h3; rfl
      · simp only [h1, h2, h3, if_false]
/-- a call is over -/
theorem ret_S {e : EV} {w : WD} {xf : Int32 → List Int32} {c d : Int32} {rest : PL2} {f : Int32} {fl : List Int32} {ρ : List Int32} {m : Int32} {g p q F n : Int32} {σ μ : mS} {M rk : Nat} {nn P r : Int32} (C : CXT e M F n rk) (S : ST e w xf c d rest f fl ρ m g p q F n σ μ) (P0 : 0 ≤ P) (P1 : P ≤ 480000) (n0 : 0 ≤ nn) (n1 : nn ≤ 100) (r0 : 0 ≤ r) (r1 : r ≤ 3000) (hR : ∀ k, 0 ≤ k → k < nn → r + k < sI σ 349 f) (va : ∀ k, 0 ≤ k → k < nn → VV w (xt σ f (r + k)) (xv σ f (r + k)) (sI μ 141 (P + k)) (sJ μ 142 (P + k))) : G2 e 1000 (M + 1) (xx6_giveBack_b45 (eN e) (eN e) (r + nn) r (md_pi σ 402 0)) (bd (mm_gather (eN e) μ P nn) (overK (eN e) (n - 1))) := by
  have b := MR0_f S.1.1.1
  have f01 := (PT_N S.1).1
  have k01 := (PT_N S.1).2.1
  have n12 := (PT_N S.1).2.2.2
  have n16 : nn.toInt ≤ 100 := tI_le.mp n1
  have n00 : 0 ≤ nn.toInt := tI_le.mp n0
  obtain ⟨E, hM, Z, EK, LB, G, HGs, GR⟩ := id C
  have BN := C.1.1
  have fr0 : m_fr vK σ (md_pi σ 402 0) := mf_pi mf_rfl rfl
  obtain ⟨υ, u1, fr, u3, u4⟩ := give_lp (N := eN e) (r := r) S.2.1 rfl (fun k k0 k1 => ⟨rg_i2 b.2.2.1.1 b.2.2.1.2.2.1 b.2.2.1.2.1 b.2.2.1.2.2.2 (ga_nn r0 r1 k0 k1 (Int32.le_trans n1 (by decide))) (hR k k0 k1), (VV_t8 (va k k0 k1)).1⟩) n0 n1 r0 r1 (eN e) 0 (by decide) n0 (by rw [show (0 : Int32).toInt = 0 from rfl]; omega) _ fr0 (by simp only [sF_pi, sF_pl, sF_ai, sF_al, sG_pi, sG_pl, sG_ai, sG_al, sI_pi, sI_pl, sI_al, sI_ai1, sI_ai2, sJ_pi, sJ_pl, sJ_ai, sJ_al1, sJ_al2, Nat.reduceEqDiff, if_true, if_false, ne_eq, not_false_eq_true, ite_true, ite_false]) (fun k k0 k1 => absurd (Int32.lt_of_le_of_lt k0 k1) Int32.lt_irrefl)
  rw [show r + 0 = r from by lia] at u1
  obtain ⟨ν, v1, frm, v3, v4⟩ := gather_m (N := eN e) (EV_N E) P0 P1 n0 (Int32.le_trans n1 (by decide)) (fun k k0 k1 => (VV_t8 (va k k0 k1)).2)
  have x : xtc f (sI σ 261 (sI σ 344 f)) σ υ := by
    refine ⟨mf_mono fr (fun k hk => ?_), fun k hk h h0 hf => by rcases hk with rfl | rfl | rfl | rfl <;> exact mf_I fr rfl, fun i _ _ => ⟨mf_I fr rfl, mf_J fr rfl⟩⟩
    simp only [xT, vK, inR, List.contains_cons, List.contains_nil, Bool.or_eq_false_iff, beq_eq_false_iff_ne, Bool.and_eq_false_iff, decide_eq_false_iff_not] at hk ⊢
    (repeat' (first | exact trivial | omega | apply And.intro))
  have y : mtc (n - 1) (mff μ (n - 1) 3) μ ν := by
    refine ⟨mf_mono frm (fun k hk => ?_), fun k hk i _ _ => by rcases hk with rfl | rfl | rfl <;> exact mf_I frm rfl, fun i _ _ => ⟨mf_I frm rfl, mf_J frm rfl⟩⟩
    simp only [nT, vM, inR, List.contains_cons, List.contains_nil, Bool.or_eq_false_iff, beq_eq_false_iff_ne, Bool.and_eq_false_iff, decide_eq_false_iff_not] at hk ⊢
    (repeat' (first | exact trivial | omega | apply And.intro))
  have a5 := S.1.2.2.2.2.2
  have y' : mtc (n - 1) (mff μ (n - 1) 3) μ (md_pi ν 143 (sI ν 149 (n - 1))) := mtc_tr y m143_tc
  have H : MR0 e w xf c d rest f fl υ (md_pi ν 143 (sI ν 149 (n - 1))) := MR0_tc S.1.1.1 x (by rw [a5]; exact y')
  have gv : GV w υ (md_pi ν 143 (sI ν 149 (n - 1))) nn := ⟨u3, v3, n0, Int32.le_trans n1 (by decide), fun k k0 k1 => by
    have a := u4 k k0 k1
    have b : sI (md_pi ν 143 (sI ν 149 (n - 1))) 188 k = sI μ 141 (P + k) ∧ sJ (md_pi ν 143 (sI ν 149 (n - 1))) 189 k = sJ μ 142 (P + k) := v4 k k0 k1
    rw [a.1, a.2, b.1, b.2]
    exact va k k0 k1⟩
  have c339 : υ.1 339 = c := (mf_F fr (k := 339) rfl).trans (top_c S.1).1
  have e411 : υ.1 411 = f := (mf_F fr (k := 411) rfl).trans S.2.2
  have e154ν : ν.1 154 = n := (mf_F frm (k := 154) rfl).trans a5
  have e154 : sF (md_pi ν 143 (sI ν 149 (n - 1))) 154 = n := e154ν
  have eF : sF υ 396 = F := (mf_F fr rfl).trans S.1.2.2.2.2.1
  obtain ⟨H1, V1, hf, hk, hB, FCx, FLx⟩ := H
  obtain ⟨υ2, p1, p2, p3, p4, p5⟩ := pop_2 (N := eN e) H1 V1 hf hk
  rw [e154] at p2 p3 hk FLx
  have kb' := BC_kb H1.2.2.2.2.2.1
  simp only at kb'
  have fm : m_fr (fun k => [154, 155].contains k) (md_pi ν 143 (sI ν 149 (n - 1))) (md_pi (md_pi (md_pi ν 143 (sI ν 149 (n - 1))) 154 (n - 1)) 155 (sF (md_pi ν 143 (sI ν 149 (n - 1))) 155 - 1)) := mf_pi (mf_pi mf_rfl rfl) rfl
  have hm : overK (eN e) (n - 1) ν = mm_finish (eN e) (md_pi (md_pi (md_pi ν 143 (sI ν 149 (n - 1))) 154 (n - 1)) 155 (sF (md_pi ν 143 (sI ν 149 (n - 1))) 155 - 1)) (sI ν 149 (n - 1)) (sI ν 150 (n - 1)) (sI ν 151 (n - 1)) := by
    rw [overK, e154ν, lt, lt, gd_in (by decide) k01.1 k01.2, lt, gd_in (by decide) k01.1 k01.2, gd_in (by decide) k01.1 k01.2, gd_in (by decide) k01.1 k01.2, bd_me (fun z => rfl)]
    rw [show (md_pi (md_pi ν 154 (n - 1)) 155 ((md_pi ν 154 (n - 1)).1 155 - 1)).2.2.1 149 (n - 1).toNatClampNeg = sI ν 149 (n - 1) from rfl, show (md_pi ν 154 (n - 1)).1 155 - 1 = sF (md_pi ν 143 (sI ν 149 (n - 1))) 155 - 1 from rfl, pi3]
    rfl
  generalize eν1 : md_pi ν 143 (sI ν 149 (n - 1)) = ν1 at *
  have q350 : ctO υ (mff ν1) f (n - 1) = (sI υ 350 f, sI υ 351 f, sI υ 352 f, sI ν 149 (n - 1), sI ν 150 (n - 1), sI ν 151 (n - 1)) := by rw [← eν1]; rfl
  generalize eν2 : md_pi (md_pi ν1 154 (n - 1)) 155 (sF ν1 155 - 1) = ν2 at *
  have e154' : sF ν2 154 = n - 1 := by rw [← eν2]; simp only [sF_pi, sF_pl, sF_ai, sF_al, sG_pi, sG_pl, sG_ai, sG_al, sI_pi, sI_pl, sI_al, sI_ai1, sI_ai2, sJ_pi, sJ_pl, sJ_ai, sJ_al1, sJ_al2, Nat.reduceEqDiff, if_true, if_false, ne_eq, not_false_eq_true, ite_true, ite_false]
  have FL2 : FL (eS e) w υ2 (mff ν2) (sI ν2 141) (sJ ν2 142) (btO d) (sI ν2 162 d) (sI ν2 161 d) (fU xf c fl c) (sF ν2 154) (ctO υ (mff ν1) f (n - 1)) := by
    rw [fU_s, e154', mf_I (k := 162) fm rfl, mf_I (k := 161) fm rfl]
    exact FL_cg FLx ⟨kb'.1, rt_2 n12.1 n12.2, kb'.2.2.1, kb'.2.2.2.1⟩ wle_rfl (fun g _ => p5 g) (cds_fr p4 rfl rfl rfl) (fun k j _ _ hj => mf_I fm (by
      simp only [List.contains_cons, List.contains_nil, Bool.or_eq_false_iff, beq_eq_false_iff_ne]
      (repeat' (first | exact trivial | omega | apply And.intro)))) (fun _ _ _ => ⟨mf_I fm rfl, mf_J fm rfl⟩)
  have gv2 : GV w υ2 ν2 nn := GV_fr gv wle_rfl p4 fm rfl rfl rfl rfl rfl rfl
  have F2 : sF υ2 396 = F := by rw [mf_F p4 rfl]; exact eF
  have T := rt_1 n12.1 n12.2
  have RR := (GR 200).1 w (fU xf c fl) c d rest υ2 ν2 nn (ctO υ (mff ν1) f (n - 1)) 450 1000 (eN e) (by rw [e154']; omega) p2 p3 FL2 gv2 n1 F2 (by rw [e154']; exact Int32.le_refl _) (by rw [e154']; omega) (by rw [e154']; omega) (by rw [e154']; omega) (by omega)
  rw [q350] at RR
  rw [u1, v1, bd_so, hm, gbE, e411, gd_in (by decide) f01.1 f01.2, lt, gd_in (by decide) f01.1 f01.2, lt, gd_in (by decide) f01.1 f01.2, lt, c339, p1, bd_so, bx_me (fun z => rfl)]
  exact RR
