/-! LAYER 2: the system's strings of texts: text finds or makes; cut -/
/-- a string of a text with these bytes -/
def t_eq (σ : mS) (v : Nat) (p n g : Int32) : Prop := x_sz σ g = n ∧ ∀ k, 0 ≤ k → k < n → x_by σ g k = sI σ v (p + k) &&& 255
theorem text_old {σ : mS} {sl : Int32 → Int32} {v : Nat} {p n h : Int32} (H : TX σ sl) (h0 : 12000 ≤ h) (h1 : h < sF σ 134) (e : t_eq σ v p n h) : tx_post σ σ v p n h := ⟨⟨sl, H⟩, h0, h1, e.1, e.2, fun _ _ _ => ⟨rfl, rfl, rfl, fun _ _ _ => rfl⟩, .inl rfl, fun _ _ _ => rfl, fun _ => rfl, fun _ => rfl, fun _ => rfl, fr_rfl⟩
/-- the first free place of a path -/
theorem first_z {P : Int32 → Prop} : ∀ (n : Nat) (j : Int32), 0 ≤ j → j.toInt < n → P j → ∃ i, 0 ≤ i ∧ i ≤ j ∧ P i ∧ ∀ k, 0 ≤ k → k < i → ¬ P k
  | 0, j, h0, h1, _ => by rw [tI_le] at h0; have z : (0 : Int32).toInt = 0 := rfl; omega
  | n + 1, j, h0, h1, hp => by
    by_cases c : ∃ k, 0 ≤ k ∧ k < j ∧ P k
    · obtain ⟨k, k0, k1, k2⟩ := c
      have k1' := k1
      rw [tI_lt] at k1'
      obtain ⟨i, i0, i1, i2, i3⟩ := first_z n k k0 (by omega) k2
      exact ⟨i, i0, by lia, i2, i3⟩
    · exact ⟨j, h0, by lia, hp, fun k k0 k1 k2 => c ⟨k, k0, k1, k2⟩⟩
theorem text_lp {N : Nat} (hN : BIG ≤ N) {σ : mS} {sl : Int32 → Int32} {p n L J T U Hh : Int32} {v : Nat} (H : TX σ sl) (hv : x_ba v L) (hL : L ≤ 1000000) (hne : v ≠ 128 ∧ v ≠ 129 ∧ v ≠ 130 ∧ v ≠ 132 ∧ v ≠ 135) (p0 : 0 ≤ p) (n0 : 0 ≤ n) (pn : p ≤ p + n) (pL : p + n ≤ L) (hT : sF σ 134 = T) (hU : sF σ 133 = U) (cT : T < 44000) (cU : U + n ≤ 70000) (cn : n ≤ 70000) (hB : ∀ k, 0 ≤ k → k < n → isB (sI σ v (p + k))) (hH : hof n (fun m => sI σ v (p + m) &&& 255) n = Hh) (J0 : 0 ≤ J) (J1 : J < 65536) (hz : sI σ 135 (plc (spr Hh) J) = 0) (hp : ∀ i, 0 ≤ i → i < J → sI σ 135 (plc (spr Hh) i) ≠ 0) : ∀ (k : Nat) (j : Int32), 0 ≤ j → j ≤ J → (J.toInt - j.toInt).toNat < k → (∀ i, 0 ≤ i → i < j → ¬ t_eq σ v p n (sI σ 135 (plc (spr Hh) i) - 1)) → ∃ h τ, xx2_text_2_b41 N k v p n Hh (plc (spr Hh) j) σ = some (h, τ) ∧ tx_post σ τ v p n h := by
  refine loop_up _ (fun k j j0 j1 ih hnm => ?_)
  have PLH := H.2.2.2.2.1
  have s := @spr_rng Hh
  by_cases c : j = J
  · subst c
    refine text_new H hv hL hne p0 n0 pn pL hT hU cT cU cn hB (fun g g0 g1 e => ?_) hH j0 J1 rfl hz hp k
    obtain ⟨a, b, d, i, i0, i1, e1, e2⟩ := PLH.1 g g0 (by rw [hT]; exact g1)
    have hg := (TX_sv H g0 (by rw [hT]; exact g1)).2
    have eh : sI σ 130 g = Hh := by
      rw [hg, ← hH, e.1]
      exact hof_congr n0 e.2
    rw [eh] at e1 e2
    rcases (by lia : i < j ∨ i = j ∨ j < i) with w | w | w
    · refine hnm i i0 w ?_
      rw [← e1, d, show g + 1 - 1 = g by lia]
      exact e
    · subst w
      rw [← e1] at hz
      rw [hz] at d
      clear hB hnm ih hp PLH H e2 hH
      lia
    · have := (e2 j j0 w).1
      rw [hz] at this
      exact absurd this (by decide)
  · have cl : j < J := by lia
    obtain ⟨r1, r2⟩ := plc_rng s.1 s.2 j0 (by lia : j < 65536)
    have hz' := hp j j0 cl
    obtain ⟨q1, q2, q3⟩ : 12000 < sI σ 135 (plc (spr Hh) j) ∧ sI σ 135 (plc (spr Hh) j) ≤ T ∧ sl (sI σ 135 (plc (spr Hh) j) - 1) = plc (spr Hh) j := by
      rcases PLH.2 _ r1 r2 with q | q
      · exact absurd q hz'
      · rw [hT] at q; exact q
    generalize hg : sI σ 135 (plc (spr Hh) j) - 1 = g at *
    have g0 : 12000 ≤ g := by lia
    have g1 : g < T := by lia
    obtain ⟨sv, hs⟩ := TX_sv H g0 (by rw [hT]; exact g1)
    have next : ¬ t_eq σ v p n g → ∃ h τ, xx2_text_2_b41 N k v p n Hh (plc (spr Hh) (j + 1)) σ = some (h, τ) ∧ tx_post σ τ v p n h := by
      intro hn
      refine ih cl (fun i i0 i1 => ?_)
      by_cases w : i = j
      · subst w; rw [hg]; exact hn
      · exact hnm i i0 (by lia)
    have ps := plc_s s.1 s.2 j0 (by lia : j < 65536)
    have hsx : x_sz σ g = sI σ 129 g := rfl
    have isx := fun e : x_sz σ g = n => (is_lp (N := N) hv g0 sv p0 (by rw [e]; exact pL) (by rw [e]; exact pn) N 0 (by decide) sv.2.2.2.1 (big_d hN)).1
    have tb := H.2.2.2.2.2.2.2.2.2.2.2
    have t6 := H.2.2.2.2.2.1 g g0 (by rw [hT]; exact g1)
    rw [hU] at tb t6
    clear hnm ih hp PLH
    rw [xx2_text_2_b41]
    by_cases d1 : sI σ 130 g = Hh
    · by_cases d2 : sI σ 129 g = n
      · obtain ⟨r, i1, i2, i3⟩ := isx (by rw [hsx]; exact d2)
        simp (disch := lia) only [lt, gd_in, if_pos, if_neg, ↓reduceIte, gd_z0, gd_z1, gd_tt, sF_fold, sG_fold, sI_fold, sJ_fold, sF_pi, sF_pl, sF_ai, sF_al, sG_pi, sG_pl, sG_ai, sG_al, sI_pi, sI_pl, sI_al, sI_ai1, sI_ai2, sJ_pi, sJ_pl, sJ_ai, sJ_al1, sJ_al2, Nat.reduceEqDiff, if_true, if_false, ne_eq, not_false_eq_true, ite_true, ite_false, hz', hg, d1, d2, xx2_is, i1, bd, xx2_text_2_b99, ps]
        have key : r = 1 ↔ t_eq σ v p n g := by
          rw [i3]
          refine ⟨fun w => ⟨by rw [hsx]; exact d2, fun k k0 k1 => ?_⟩, fun w k k0 k1 => ?_⟩
          · simp only [x_by]
            rw [if_neg (by lia), w k k0 (by rw [hsx, d2]; exact k1)]
          · have kn : k < n := by rw [← d2, ← hsx]; exact k1
            have := w.2 k k0 kn
            simp only [x_by] at this
            rw [if_neg (by lia)] at this
            refine B_eq (tb _ ?_ ?_) (hB k k0 kn) this
            · have := t6.1; have := t6.2.2.1; lia
            · have := t6.1; have := t6.2.2.1; have := t6.2.2.2.2.1; lia
        by_cases d3 : r = 0
        · rw [if_pos d3]
          exact next (fun w => by have := key.mpr w; rw [d3] at this; exact absurd this (by decide))
        · rw [if_neg d3]
          refine ⟨g, σ, rfl, text_old H g0 (by rw [hT]; exact g1) (key.mp (i2.resolve_right d3))⟩
      · simp (disch := lia) only [lt, gd_in, if_pos, if_neg, ↓reduceIte, gd_z0, gd_z1, gd_tt, sF_fold, sG_fold, sI_fold, sJ_fold, sF_pi, sF_pl, sF_ai, sF_al, sG_pi, sG_pl, sG_ai, sG_al, sI_pi, sI_pl, sI_al, sI_ai1, sI_ai2, sJ_pi, sJ_pl, sJ_ai, sJ_al1, sJ_al2, Nat.reduceEqDiff, if_true, if_false, ne_eq, not_false_eq_true, ite_true, ite_false, hz', hg, d1, d2, xx2_text_2_b99, ps]
        exact next (fun w => d2 (by rw [← hsx]; exact w.1))
    · simp (disch := lia) only [lt, gd_in, if_pos, if_neg, ↓reduceIte, gd_z0, gd_z1, gd_tt, sF_fold, sG_fold, sI_fold, sJ_fold, sF_pi, sF_pl, sF_ai, sF_al, sG_pi, sG_pl, sG_ai, sG_al, sI_pi, sI_pl, sI_al, sI_ai1, sI_ai2, sJ_pi, sJ_pl, sJ_ai, sJ_al1, sJ_al2, Nat.reduceEqDiff, if_true, if_false, ne_eq, not_false_eq_true, ite_true, ite_false, hz', hg, d1, xx2_text_2_b99, ps]
      refine next (fun w => d1 ?_)
      rw [hs, ← hH, w.1]
      exact hof_congr n0 w.2
theorem text_x {N : Nat} (hN : BIG ≤ N) {σ : mS} {sl : Int32 → Int32} {p n L : Int32} {v : Nat} (H : TX σ sl) (hv : x_ba v L) (hL : L ≤ 1000000) (hne : v ≠ 128 ∧ v ≠ 129 ∧ v ≠ 130 ∧ v ≠ 132 ∧ v ≠ 135) (p0 : 0 ≤ p) (n0 : 0 ≤ n) (pn : p ≤ p + n) (pL : p + n ≤ L) (cT : sF σ 134 < 44000) (cU : sF σ 133 + n ≤ 70000) (cn : n ≤ 70000) (hB : ∀ k, 0 ≤ k → k < n → isB (sI σ v (p + k))) : ∃ h τ, xx2_text_2 N σ v p n = some (h, τ) ∧ tx_post σ τ v p n h := by
  have s := @spr_rng (hof n (fun m => sI σ v (p + m) &&& 255) n)
  obtain ⟨j, j0, j1, j2⟩ := PL_zero H.2.2.2.2.1 H.2.1 _ s.1 s.2
  have j1' := j1
  rw [tI_lt] at j1'
  obtain ⟨J, J0, J1, J2, J3⟩ := first_z (P := fun j => sI σ 135 (plc (spr (hof n (fun m => sI σ v (p + m) &&& 255) n)) j) = 0) 65536 j j0 j1' j2
  have l1 := text_l1 (N := N) (σ := σ) hv p0 pn pL N 0 (by decide) n0 (big_d hN)
  rw [hof_0] at l1
  rw [xx2_text_2, l1]
  have l2 := text_lp hN H hv hL hne p0 n0 pn pL rfl rfl cT cU cn hB rfl J0 (by lia) J2 J3 N 0 (by decide) J0 (big_d hN) (fun i i0 i1 => by lia)
  rw [plc_0 s.2 s.1] at l2
  exact l2
