/-! LAYER 2: step rules: TAIL -/
theorem tail_S {e : EV} {w : WD} {xf : Int32 → List Int32} {c d : Int32} {rest : PL2} {f : Int32} {fl : List Int32} {ρ : List Int32} {m : Int32} {g p q F n : Int32} {σ μ : mS} {M rk : Nat} {P nn r tx : Int32} {vx : Int64} (C : CXT e M F n rk) (S : ST e w xf c d rest f fl ρ m g p q F n σ μ) (L : LE σ (mff μ) f (n - 1)) (P0 : 0 ≤ P) (P1 : P ≤ 480000) (hB : mff μ (n - 1) 3 ≤ P) (n0 : 0 ≤ nn) (n1 : nn ≤ 145) (r0 : 0 ≤ r) (r1 : r ≤ 3000) (hR : ∀ k, 0 ≤ k → k < nn → r + k < sI σ 349 f) (top : sF μ 143 = P + nn + 1) (v : VV w tx vx (sI μ 141 P) (sJ μ 142 P)) (va : ∀ k, 0 ≤ k → k < nn → VV w (xt σ f (r + k)) (xv σ f (r + k)) (sI μ 141 (P + 1 + k)) (sJ μ 142 (P + 1 + k))) : ∃ υ, xx6_gather_b35 (eN e) (eN e) (r + nn) r (md_pi σ 399 0) = some υ ∧ m_fr (fun k => [397, 398, 399].contains k) σ υ ∧ G2 e 1000 (M + 1) (xx6_tail (eN e) υ tx vx) (mm_lastCall (eN e) μ (n - 1) nn) := by
  obtain ⟨E, hM, Z, EK, LB, G, HGs, GR⟩ := id C
  have b := MR0_f S.1.1.1
  have f01 := (PT_N S.1).1
  have k01 := (PT_N S.1).2.1
  have n12 := (PT_N S.1).2.2.2
  have n16 : nn.toInt ≤ 145 := tI_le.mp n1
  have fr0 : m_fr (fun k => [397, 398, 399].contains k) σ (md_pi σ 399 0) := mf_pi mf_rfl rfl
  have BN := C.1.1
  obtain ⟨υ, u1, fr, u3, u4⟩ := gath_lp (N := eN e) (r := r) S.2.1 rfl (fun k k0 k1 => ⟨rg_i2 b.2.2.1.1 b.2.2.1.2.2.1 b.2.2.1.2.1 b.2.2.1.2.2.2 (ga_nn r0 r1 k0 k1 n1) (hR k k0 k1), (VV_t8 (va k k0 k1)).1⟩) n0 n1 r0 r1 (eN e) 0 (by decide) n0 (by rw [show (0 : Int32).toInt = 0 from rfl]; omega) _ fr0 (by simp only [sF_pi, sF_pl, sF_ai, sF_al, sG_pi, sG_pl, sG_ai, sG_al, sI_pi, sI_pl, sI_al, sI_ai1, sI_ai2, sJ_pi, sJ_pl, sJ_ai, sJ_al1, sJ_al2, Nat.reduceEqDiff, if_true, if_false, ne_eq, not_false_eq_true, ite_true, ite_false]) (fun k k0 k1 => absurd (Int32.lt_of_le_of_lt k0 k1) Int32.lt_irrefl)
  rw [show r + 0 = r from by lia] at u1
  refine ⟨υ, u1, fr, ?_⟩
  have frl : m_fr ltX σ υ := mf_mono fr (fun k hk => by
    simp only [ltX, inR, List.contains_cons, List.contains_nil, Bool.or_eq_false_iff, beq_eq_false_iff_ne, Bool.or_eq_false_iff, Bool.and_eq_false_iff, decide_eq_false_iff_not] at hk ⊢
    (repeat' (first | exact trivial | omega | apply And.intro)))
  have U : UK e w xf c d rest υ μ := UK_lt (PT_UK S.1 L) frl mf_rfl ((mf_F fr rfl).trans (PT_0 S.1).1)
  have A : AR w υ μ P nn := by
    refine ⟨u3, n0, n1, top, fun k k0 k1 => ?_⟩
    have a := u4 k k0 k1
    rw [a.1, a.2]
    exact va k k0 k1
  have a5 := S.1.2.2.2.2.2
  have eF : sF υ 396 = F := (mf_F fr rfl).trans S.1.2.2.2.2.1
  have e6 : μ.1 143 - nn - 1 = P := by
    rw [show μ.1 143 = P + nn + 1 from top]; exact cl_1.2
  rw [tail_x, last_x, e6, lt]
  rcases look_U E U A P0 P1 v (VV_8 v) with ⟨n', τ, τm, l1, l2, l3, lP, A1, h5, vf, fr1, fr2⟩ | O
  · have n'0 := A1.2.1
    rw [l1, l2, bx_so, bd_so]
    have x : xtc f (sI σ 261 (sI σ 344 f)) σ τ := by
      have fx : m_fr aK σ τ := mf_tr (mf_mono fr (fun k hk => by
        simp only [aK, List.contains_cons, List.contains_nil, Bool.or_eq_false_iff, beq_eq_false_iff_ne] at hk ⊢
        (repeat' (first | exact trivial | omega | apply And.intro)))) fr1
      refine ⟨mf_mono fx (fun k hk => ?_), fun k hk h h0 hf => by rcases hk with rfl | rfl | rfl | rfl <;> exact mf_I fx rfl, fun i _ _ => ⟨mf_I fx rfl, mf_J fx rfl⟩⟩
      simp only [xT, aK, inR, List.contains_cons, List.contains_nil, Bool.or_eq_false_iff, beq_eq_false_iff_ne, Bool.or_eq_false_iff, Bool.and_eq_false_iff, decide_eq_false_iff_not] at hk ⊢
      (repeat' (first | exact trivial | omega | apply And.intro))
    have y : mtc (n - 1) (mff μ (n - 1) 3) μ τm := by
      refine ⟨mf_mono fr2 (fun k hk => ?_), fun k hk i _ _ => by rcases hk with rfl | rfl | rfl <;> exact mf_I fr2 rfl, fun i i0 i1 => lP i i0 (Int32.lt_of_lt_of_le i1 hB)⟩
      simp only [nT, lkM, inR, List.contains_cons, List.contains_nil, Bool.or_eq_false_iff, beq_eq_false_iff_ne, Bool.or_eq_false_iff, Bool.and_eq_false_iff, decide_eq_false_iff_not] at hk ⊢
      (repeat' (first | exact trivial | omega | apply And.intro))
    have H : MR0 e w xf c d rest f fl τ τm := MR0_tc S.1.1.1 x (by rw [a5]; exact y)
    have bb := MR0_f H
    have e154 : τm.1 154 = n := (mf_F fr2 (k := 154) rfl).trans a5
    rw [show sF τm 154 = n from e154] at bb
    have c339 : τ.1 339 = c := ((mf_F fr1 (k := 339) rfl).trans (mf_F fr rfl)).trans (top_c S.1).1
    have e411 : τ.1 411 = f := ((mf_F fr1 (k := 411) rfl).trans (mf_F fr rfl)).trans S.2.2
    have eF1 : sF τ 396 = F := (mf_F fr1 rfl).trans eF
    obtain ⟨H1, V1, hf, hk, hB2, FCx, FLx⟩ := H
    obtain ⟨υ2, p1, p2, p3, p4, p5⟩ := pop_2 (N := eN e) H1 V1 hf hk
    rw [show sF τm 154 = n from e154] at p2 p3 hk FLx
    have kb' := BC_kb H1.2.2.2.2.2.1
    simp only at kb'
    have fm : m_fr (fun k => [154, 155].contains k) τm (md_pi (md_pi τm 154 (n - 1)) 155 (sF τm 155 - 1)) := mf_pi (mf_pi mf_rfl rfl) rfl
    have hm : lastE (eN e) (n - 1) P (n', τm) = mm_lastCall_70 (eN e) (eN e) P n' (sI τm 149 (n - 1)) (sI τm 150 (n - 1)) (sI τm 151 (n - 1)) 0 (md_pi (md_pi τm 154 (n - 1)) 155 (sF τm 155 - 1)) := by
      rw [lastE, if_pos n'0, gd_in (by decide) k01.1 k01.2, lt, gd_in (by decide) k01.1 k01.2, lt, gd_in (by decide) k01.1 k01.2, lt, lt, lt, e154]
      rfl
    have q350 : ctO τ (mff τm) f (n - 1) = (sI τ 350 f, sI τ 351 f, sI τ 352 f, sI τm 149 (n - 1), sI τm 150 (n - 1), sI τm 151 (n - 1)) := rfl
    generalize eν2 : md_pi (md_pi τm 154 (n - 1)) 155 (sF τm 155 - 1) = ν2 at *
    have e154' : sF ν2 154 = n - 1 := by rw [← eν2]; simp only [sF_pi, sF_pl, sF_ai, sF_al, sG_pi, sG_pl, sG_ai, sG_al, sI_pi, sI_pl, sI_al, sI_ai1, sI_ai2, sJ_pi, sJ_pl, sJ_ai, sJ_al1, sJ_al2, Nat.reduceEqDiff, if_true, if_false, ne_eq, not_false_eq_true, ite_true, ite_false]
    have T := tq_1 n12.1 n12.2
    have FL2 : FL (eS e) w υ2 (mff ν2) (sI ν2 141) (sJ ν2 142) (btO d) (sI ν2 162 d) (sI ν2 161 d) (fU xf c fl c) (sF ν2 154) (ctO τ (mff τm) f (n - 1)) := by
      rw [fU_s, e154', mf_I (k := 162) fm rfl, mf_I (k := 161) fm rfl]
      exact FL_cg FLx ⟨kb'.1, T.2, kb'.2.2.1, kb'.2.2.2.1⟩ wle_rfl (fun g _ => p5 g) (cds_fr p4 rfl rfl rfl) (fun k j _ _ hj => mf_I fm (by
        simp only [List.contains_cons, List.contains_nil, Bool.or_eq_false_iff, beq_eq_false_iff_ne]
        (repeat' (first | exact trivial | omega | apply And.intro)))) (fun _ _ _ => ⟨mf_I fm rfl, mf_J fm rfl⟩)
    have CL2 : CL e w (fU xf c fl) c d rest (ctO τ (mff τm) f (n - 1)) υ2 ν2 := ⟨p2, p3, FL2⟩
    rw [q350] at CL2
    have to0 : 0 ≤ sI τm 149 (n - 1) := bb.2.2.2.2.1
    have e3 : mff τm (n - 1) 3 = mff μ (n - 1) 3 := mf_I (k := 147) fr2 rfl
    have toP : sI τm 149 (n - 1) ≤ P := Int32.le_trans (Int32.le_of_lt bb.2.2.2.2.2.1) (by rw [e3]; exact hB)
    have t4 := tq_4 n'0 l3
    have pI : ∀ x, sI ν2 141 x = sI τm 141 x := fun x => mf_I fm rfl
    have pJ : ∀ x, sJ ν2 142 x = sJ τm 142 x := fun x => mf_J fm rfl
    have vv : ∀ k, 0 ≤ k → k < n' → VV w (sI τ 397 k) (sJ τ 398 k) (sI τm 141 (P + 1 + k)) (sJ τm 142 (P + 1 + k)) := A1.2.2.2.2
    have P00 : P + 0 = P := by clear vv A va; lia
    obtain ⟨ν3, m1, m2, m3, m4⟩ := lq_lp (N := eN e) (σ := ν2) (wn := sI τm 150 (n - 1)) (th := sI τm 151 (n - 1)) to0 toP P1 n'0 l3 (fun k k0 k1 => by
      rw [pI]
      by_cases ck : k = 0
      · rw [ck, P00, h5]; exact ⟨by decide, by decide⟩
      · have K := tq_2 l3 k0 k1 ck
        have := vv (k - 1) K.1 K.2.1
        rw [K.2.2] at this
        exact (VV_t8 this).2) (eN e) 0 (by decide) t4.2.1 (by rw [show (0 : Int32).toInt = 0 from rfl]; omega) ν2 mf_rfl (fun k k0 k1 => absurd (Int32.lt_of_le_of_lt k0 k1) Int32.lt_irrefl) (fun _ _ _ => ⟨rfl, rfl⟩)
    have fm3 : m_fr agM ν2 (md_pi ν3 143 (sI τm 149 (n - 1) + n' + 1)) := mf_pi (mf_mono m2 (fun k hk => by
      simp only [agM, inR, List.contains_cons, List.contains_nil, Bool.or_eq_false_iff, beq_eq_false_iff_ne, Bool.or_eq_false_iff, Bool.and_eq_false_iff, decide_eq_false_iff_not] at hk ⊢
      (repeat' (first | exact trivial | omega | apply And.intro)))) rfl
    have CL3 := CL_ag CL2 (mf_rfl (σ := υ2)) fm3 ((mf_F p4 rfl).trans ((mf_F fr1 rfl).trans ((mf_F fr rfl).trans (PT_0 S.1).1))) (fun i i0 i1 => m4 i i0 i1)
    have h5' : sI (md_pi ν3 143 (sI τm 149 (n - 1) + n' + 1)) 141 (sI τm 149 (n - 1)) = 5 ∧ sJ (md_pi ν3 143 (sI τm 149 (n - 1) + n' + 1)) 142 (sI τm 149 (n - 1)) = sJ τm 142 P := by
      have := m3 0 (by decide) t4.1
      rw [P00, show sI τm 149 (n - 1) + 0 = sI τm 149 (n - 1) from by clear vv A va; lia, pI, pJ, h5] at this
      exact this
    have A3 : AR w υ2 (md_pi ν3 143 (sI τm 149 (n - 1) + n' + 1)) (sI τm 149 (n - 1)) n' := by
      refine ⟨(mf_F p4 rfl).trans A1.1, n'0, A1.2.2.1, by simp only [sF_pi, sF_pl, sF_ai, sF_al, sG_pi, sG_pl, sG_ai, sG_al, sI_pi, sI_pl, sI_al, sI_ai1, sI_ai2, sJ_pi, sJ_pl, sJ_ai, sJ_al1, sJ_al2, Nat.reduceEqDiff, if_true, if_false, ne_eq, not_false_eq_true, ite_true, ite_false], fun k k0 k1 => ?_⟩
      have K := tq_3 n'0 l3 k0 k1
      have := m3 (k + 1) K.1 K.2.1
      rw [K.2.2, K.2.2, pI, pJ] at this
      rw [show sI (md_pi ν3 143 (sI τm 149 (n - 1) + n' + 1)) 141 (sI τm 149 (n - 1) + 1 + k) = sI ν3 141 (sI τm 149 (n - 1) + 1 + k) from rfl, show sJ (md_pi ν3 143 (sI τm 149 (n - 1) + n' + 1)) 142 (sI τm 149 (n - 1) + 1 + k) = sJ ν3 142 (sI τm 149 (n - 1) + 1 + k) from rfl, this.1, this.2, mf_I p4 (k := 397) rfl, mf_J p4 (k := 398) rfl]
      exact vv k k0 k1
    have e154'' : sF (md_pi ν3 143 (sI τm 149 (n - 1) + n' + 1)) 154 = n - 1 := (mf_F fm3 rfl).trans e154'
    have o358 := CL3.1.2.2.2.2.2.2.2.2.1.2.1
    rw [tI_le] at o358
    have BE := BG_en E EK LB (by omega) HGs (GR 200).2 (m := 200) (dx := 1096) (dm := 847) CL3 A3 l3 h5'.1 (by
      rw [mf_G p4 (k := 409) rfl]
      have e : sJ (md_pi ν3 143 (sI τm 149 (n - 1) + n' + 1)) 142 (sI τm 149 (n - 1)) = sJ τm 142 P := h5'.2
      show VV w 6 (sG τ 409) 5 (sJ (md_pi ν3 143 (sI τm 149 (n - 1) + n' + 1)) 142 (sI τm 149 (n - 1)))
      rw [e]
      exact vf) ((mf_F p4 rfl).trans eF1) (by rw [e154'']; exact T.1) (by have z0 : (0 : Int32).toInt = 0 := rfl; omega) (by omega) (by omega)
    have en : (fun z6 : mS => bx (xx6_enter (eN e) z6 (sI τ 350 f) (sI τ 351 f) (sI τ 352 f)) (fun z7 => some (Except.ok z7))) = (fun z6 => bx (bxx6_enter (eN e) (rc_xx6_begin (eN e) (1096 + 3)) z6 (sI τ 350 f) (sI τ 351 f) (sI τ 352 f)) (fun z7 => some (Except.ok z7))) := funext fun z6 => by rw [ent_x (d := 1096 + 3) rfl]
    rw [hm, m1, ent_m (d := 847 + 2) rfl, tailE, e411, gd_in (by decide) f01.1 f01.2, lt, gd_in (by decide) f01.1 f01.2, lt, gd_in (by decide) f01.1 f01.2, lt, c339, p1, bd_so]
    rw [show (fun z6 : mS => bx (xx6_enter (eN e) z6 (τ.2.2.1 350 f.toNatClampNeg) (τ.2.2.1 351 f.toNatClampNeg) (τ.2.2.1 352 f.toNatClampNeg)) (fun z7 => some (Except.ok z7))) = (fun z6 => bx (bxx6_enter (eN e) (rc_xx6_begin (eN e) (1096 + 3)) z6 (sI τ 350 f) (sI τ 351 f) (sI τ 352 f)) (fun z7 => some (Except.ok z7))) from en]
    exact BE
  · refine UO_G2 E (GR 200).2 (UO_bd (UO_bx O) (fun z => ?_)) eF (by rw [a5]; exact Int32.le_refl _)
    rw [lastE, if_neg (show ¬ (0 : Int32) ≤ -1 from by decide)]
