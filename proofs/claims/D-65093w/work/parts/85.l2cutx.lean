/-! LAYER 2: the system's strings of texts: cut -/
theorem cut_lp {N : Nat} {σ : mS} {r0 : Int32 → mS → Option mS} {T s J c : Int32} (hT : sF σ 134 = T) (h0 : 12000 ≤ T) (h1 : T < 44000) (s0 : 0 ≤ s) (s1 : s < 65536) (J0 : 0 ≤ J) (J1 : J < 65536) (hJ : sI σ 135 (plc s J) = T + 1) (hp : ∀ i, 0 ≤ i → i < J → sI σ 135 (plc s i) ≤ T) : ∀ (k : Nat) (j : Int32), 0 ≤ j → j ≤ J → (J.toInt - j.toInt).toNat < k → xx2_cut_b34 N r0 k c (plc s j) σ = r0 c (md_pi (md_ai σ 135 (plc s J).toNatClampNeg 0) 133 (sF σ 133 - sI σ 129 T)) := by
  refine loop_up _ (fun k j j0 j1 ih => ?_)
  obtain ⟨r1, r2⟩ := plc_rng s0 s1 j0 (by lia : j < 65536)
  have ps := plc_s s0 s1 j0 (by lia : j < 65536)
  rw [xx2_cut_b34]
  by_cases d : j = J
  · subst d
    simp (disch := lia) only [lt, gd_in, if_pos, if_neg, ↓reduceIte, gd_z0, gd_z1, gd_tt, sF_fold, sG_fold, sI_fold, sJ_fold, sF_pi, sF_pl, sF_ai, sF_al, sG_pi, sG_pl, sG_ai, sG_al, sI_pi, sI_pl, sI_al, sI_ai1, sI_ai2, sJ_pi, sJ_pl, sJ_ai, sJ_al1, sJ_al2, Nat.reduceEqDiff, if_true, if_false, ne_eq, not_false_eq_true, ite_true, ite_false, hT, hJ]
  · have := hp j j0 (by lia)
    simp (disch := lia) only [lt, gd_in, if_pos, if_neg, ↓reduceIte, gd_z0, gd_z1, gd_tt, sF_fold, sG_fold, sI_fold, sJ_fold, sF_pi, sF_pl, sF_ai, sF_al, sG_pi, sG_pl, sG_ai, sG_al, sI_pi, sI_pl, sI_al, sI_ai1, sI_ai2, sJ_pi, sJ_pl, sJ_ai, sJ_al1, sJ_al2, Nat.reduceEqDiff, if_true, if_false, ne_eq, not_false_eq_true, ite_true, ite_false, hT, ps]
    exact ih (by lia)
theorem TX_cut {σ τ : mS} {sl : Int32 → Int32} {T : Int32} (H : TX σ sl) (hT : sF σ 134 = T + 1) (h0 : 12000 ≤ T) (h1 : T < 44000) (f134 : sF τ 134 = T) (f133 : sF τ 133 = sF σ 133 - sI σ 129 T) (a : ∀ k m, k ≠ 135 → sI τ k m = sI σ k m) (a135 : ∀ m, 0 ≤ m → sI τ 135 m = if m = sl T then 0 else sI σ 135 m) : TX τ sl := by
  obtain ⟨t1, t2, t3, t4, t5, t6, t7, t8, t9, t10, t11, t12⟩ := H
  rw [hT] at t5 t6 t7 t8 t9 t10 t11
  have u9 : sI σ 128 T + sI σ 129 T = sF σ 133 := by
    have := t9 (by lia)
    rw [show T + 1 - 1 = T by lia] at this
    exact this
  have u10 : sI σ 128 12000 = 0 := t10.2 (by lia)
  clear t9 t10
  obtain ⟨z1, z2, z3, z4, z5, z6⟩ := t6 T h0 (by lia)
  have u : sF τ 133 = sI σ 128 T := by rw [f133, ← u9]; lia
  have eq : ∀ g h, x_eq τ g h ↔ x_eq σ g h := by
    intro g h
    simp only [x_eq, x_sz, x_by, a 129 _ (by decide), a 128 _ (by decide), a 131 _ (by decide), a 132 _ (by decide)]
  have hsq : ∀ h, x_hs σ h → x_hs τ h := by
    intro h w
    have e : x_by τ h = x_by σ h := by
      funext k
      simp only [x_by, a 128 _ (by decide), a 131 _ (by decide), a 132 _ (by decide)]
    simp only [x_hs, x_sz, a 129 _ (by decide), a 130 _ (by decide), e]
    exact w
  have e130 : sI τ 130 = sI σ 130 := by funext m; exact a 130 m (by decide)
  have slr := t5.1 T h0 (by lia)
  have pl := PL_cut (pm := sI τ 135) t5 h0 h1 (by rw [a135 _ slr.1, if_pos rfl]) (fun p p0 p1 p2 => by rw [a135 p p0, if_neg p2])
  clear t5 slr
  simp only [TX]
  rw [f134, u, e130]
  simp only [a 128 _ (by decide : 128 ≠ 135), a 129 _ (by decide : 129 ≠ 135), a 132 _ (by decide : 132 ≠ 135)]
  refine ⟨h0, by lia, z1, z3, pl, fun h w0 w1 => ?_, fun h w0 w1 w2 => t7 h w0 w1 (by lia), fun g h w0 w1 w2 => t8 g h w0 w1 (by lia), fun w => ?_, ?_, fun g h g0 g1 w0 w1 e => t11 g h g0 (by lia) w0 (by lia) ((eq g h).mp e), fun m m0 m1 => t12 m m0 (by lia)⟩
  · obtain ⟨q1, q2, q3, q4, q5, q6⟩ := t6 h w0 (by lia)
    exact ⟨q1, q2, q3, q4, t8 h T w0 w1 (by lia), hsq h q6⟩
  · have := t7 (T - 1) (by lia) (by lia) (by lia)
    rw [show T - 1 + 1 = T by lia] at this
    exact this
  · exact ⟨fun w => by rw [w]; exact u10, fun _ => u10⟩
/-- what cut does -/
def ct_post (σ τ : mS) (sl : Int32 → Int32) (c : Int32) : Prop := TX τ sl ∧ sF τ 134 = c ∧ sF τ 133 ≤ sF σ 133 ∧ (∀ k, k ≠ 133 → k ≠ 134 → sF τ k = sF σ k) ∧ (∀ k m, k ≠ 135 → sI τ k m = sI σ k m) ∧ x_fr 2 σ τ
theorem cut_b0 {N : Nat} (hN : BIG ≤ N) {c : Int32} (hc : 12000 ≤ c) : ∀ (n : Nat) (T : Int32), c ≤ T → T ≤ 44000 → (T.toInt - c.toInt).toNat < n → ∀ (σ : mS) (sl : Int32 → Int32), TX σ sl → sF σ 134 = T → ∃ τ, xx2_cut_b0 N n c σ = some τ ∧ ct_post σ τ sl c := by
  refine loop_dn _ (fun n T h0 h1 ih σ sl H hT => ?_)
  rw [xx2_cut_b0]
  by_cases d : T = c
  · refine ⟨σ, by simp (disch := lia) only [lt, gd_in, if_pos, if_neg, ↓reduceIte, gd_z0, gd_z1, gd_tt, sF_fold, sG_fold, sI_fold, sJ_fold, hT], H, by rw [hT, d], by lia, fun _ _ _ => rfl, fun _ _ _ => rfl, fr_rfl⟩
  · have PLH := H.2.2.2.2.1
    rw [hT] at PLH
    obtain ⟨s0, s1, sq, J, J0, J1, e, ep⟩ := PLH.1 (T - 1) (by lia) (by lia)
    have s := @spr_rng (sI σ 130 (T - 1))
    have lp := cut_lp (N := N) (σ := md_pi σ 134 (T - 1)) (r0 := xx2_cut_b0 N n) (T := T - 1) (s := spr (sI σ 130 (T - 1))) (J := J) (c := c) (by simp only [sF_pi, sF_pl, sF_ai, sF_al, sG_pi, sG_pl, sG_ai, sG_al, sI_pi, sI_pl, sI_al, sI_ai1, sI_ai2, sJ_pi, sJ_pl, sJ_ai, sJ_al1, sJ_al2, Nat.reduceEqDiff, if_true, if_false, ne_eq, not_false_eq_true, ite_true, ite_false]) (by lia) (by lia) s.1 s.2 J0 J1 (by rw [sI_pi, ← e, sq]) (fun i i0 i1 => by rw [sI_pi]; exact (ep i i0 i1).2) N 0 (by decide) J0 (big_d hN)
    rw [plc_0 s.2 s.1, ← e] at lp
    simp only [sF_pi, sF_pl, sF_ai, sF_al, sG_pi, sG_pl, sG_ai, sG_al, sI_pi, sI_pl, sI_al, sI_ai1, sI_ai2, sJ_pi, sJ_pl, sJ_ai, sJ_al1, sJ_al2, Nat.reduceEqDiff, if_true, if_false, ne_eq, not_false_eq_true, ite_true, ite_false] at lp
    have t6 := H.2.2.2.2.2.1 (T - 1) (by lia) (by lia)
    have H' : TX (md_pi (md_ai (md_pi σ 134 (T - 1)) 135 (sl (T - 1)).toNatClampNeg 0) 133 (sF σ 133 - sI σ 129 (T - 1))) sl := by
      refine TX_cut H (T := T - 1) (by rw [hT]; lia) (by lia) (by lia) ?_ ?_ ?_ ?_
      · simp only [sF_pi, sF_pl, sF_ai, sF_al, sG_pi, sG_pl, sG_ai, sG_al, sI_pi, sI_pl, sI_al, sI_ai1, sI_ai2, sJ_pi, sJ_pl, sJ_ai, sJ_al1, sJ_al2, Nat.reduceEqDiff, if_true, if_false, ne_eq, not_false_eq_true, ite_true, ite_false]
      · simp only [sF_pi, sF_pl, sF_ai, sF_al, sG_pi, sG_pl, sG_ai, sG_al, sI_pi, sI_pl, sI_al, sI_ai1, sI_ai2, sJ_pi, sJ_pl, sJ_ai, sJ_al1, sJ_al2, Nat.reduceEqDiff, if_true, if_false, ne_eq, not_false_eq_true, ite_true, ite_false]
      · intro k m hk
        rw [sI_pi, sI_ai1 hk, sI_pi]
      · intro m m0
        rw [sI_pi, sI_ai s0 m0, sI_pi]
        simp only [true_and]
    obtain ⟨τ, r1, r2, r3, r4, r5, r6, r7⟩ := ih (by lia) _ sl H' (by simp only [sF_pi, sF_pl, sF_ai, sF_al, sG_pi, sG_pl, sG_ai, sG_al, sI_pi, sI_pl, sI_al, sI_ai1, sI_ai2, sJ_pi, sJ_pl, sJ_ai, sJ_al1, sJ_al2, Nat.reduceEqDiff, if_true, if_false, ne_eq, not_false_eq_true, ite_true, ite_false])
    refine ⟨τ, ?_, r2, r3, ?_, fun k k1 k2 => ?_, fun k m hk => ?_, ?_⟩
    · clear PLH ep H H' ih
      simp (disch := lia) only [lt, gd_in, if_pos, if_neg, ↓reduceIte, gd_z0, gd_z1, gd_tt, sF_fold, sG_fold, sI_fold, sJ_fold, sF_pi, sF_pl, sF_ai, sF_al, sG_pi, sG_pl, sG_ai, sG_al, sI_pi, sI_pl, sI_al, sI_ai1, sI_ai2, sJ_pi, sJ_pl, sJ_ai, sJ_al1, sJ_al2, Nat.reduceEqDiff, if_true, if_false, ne_eq, not_false_eq_true, ite_true, ite_false, hT, xx2_spread, bd]
      exact lp.trans r1
    · simp only [sF_pi, sF_pl, sF_ai, sF_al, sG_pi, sG_pl, sG_ai, sG_al, sI_pi, sI_pl, sI_al, sI_ai1, sI_ai2, sJ_pi, sJ_pl, sJ_ai, sJ_al1, sJ_al2, Nat.reduceEqDiff, if_true, if_false, ne_eq, not_false_eq_true, ite_true, ite_false] at r4
      have := t6.2.1
      have := t6.1
      have := t6.2.2.1
      have := t6.2.2.2.2.1
      have := t6.2.2.2.1
      have := H.2.2.2.1
      clear PLH ep H H' ih lp
      lia
    · rw [r5 k k1 k2]
      simp only [sF_pi, sF_pl, sF_ai, sF_al, sG_pi, sG_pl, sG_ai, sG_al, sI_pi, sI_pl, sI_al, sI_ai1, sI_ai2, sJ_pi, sJ_pl, sJ_ai, sJ_al1, sJ_al2, Nat.reduceEqDiff, if_true, if_false, ne_eq, not_false_eq_true, ite_true, ite_false, if_neg k1, if_neg k2]
    · rw [r6 k m hk, sI_pi, sI_ai1 hk, sI_pi]
    · exact fr_tr (fr_pi (fr_ai (fr_pi fr_rfl rfl) rfl) rfl) r7
theorem cut_x {N : Nat} (hN : BIG ≤ N) {σ : mS} {sl : Int32 → Int32} {c : Int32} (H : TX σ sl) (hc : 12000 ≤ c) (h : c ≤ sF σ 134) : ∃ τ, xx2_cut N σ c = some τ ∧ ct_post σ τ sl c := cut_b0 hN hc N (sF σ 134) h H.2.1 (big_d hN) σ sl H rfl
