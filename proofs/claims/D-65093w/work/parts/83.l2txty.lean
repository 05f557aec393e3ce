/-! LAYER 2: the system's strings of texts: text, cut -/
def TX (σ : mS) (sl : Int32 → Int32) : Prop := 12000 ≤ sF σ 134 ∧ sF σ 134 ≤ 44000 ∧ 0 ≤ sF σ 133 ∧ sF σ 133 ≤ 70000 ∧ PL (sI σ 135) (sI σ 130) (sF σ 134) sl ∧ (∀ h, 12000 ≤ h → h < sF σ 134 → 0 ≤ sI σ 128 h ∧ 0 ≤ sI σ 129 h ∧ sI σ 128 h ≤ 70000 ∧ sI σ 129 h ≤ 70000 ∧ sI σ 128 h + sI σ 129 h ≤ sF σ 133 ∧ x_hs σ h) ∧ (∀ h, 12000 ≤ h → h < 44000 → h + 1 < sF σ 134 → sI σ 128 h + sI σ 129 h = sI σ 128 (h + 1)) ∧ (∀ g h, 12000 ≤ g → g < h → h < sF σ 134 → sI σ 128 g + sI σ 129 g ≤ sI σ 128 h) ∧ (12000 < sF σ 134 → sI σ 128 (sF σ 134 - 1) + sI σ 129 (sF σ 134 - 1) = sF σ 133) ∧ ((sF σ 134 = 12000 → sF σ 133 = 0) ∧ (12000 < sF σ 134 → sI σ 128 12000 = 0)) ∧ (∀ g h, 12000 ≤ g → g < sF σ 134 → 12000 ≤ h → h < sF σ 134 → x_eq σ g h → g = h) ∧ (∀ m, 0 ≤ m → m < sF σ 133 → isB (sI σ 132 m))
theorem TX_sv {σ : mS} {sl : Int32 → Int32} (H : TX σ sl) {h : Int32} (h0 : 12000 ≤ h) (h1 : h < sF σ 134) : x_sv σ h ∧ x_hs σ h := by
  obtain ⟨t1, t2, t3, t4, t5, t6, _⟩ := H
  obtain ⟨q1, q2, q3, q4, q5, q6⟩ := t6 h h0 h1
  exact ⟨⟨by lia, by lia, q1, q2, by lia, by lia, by lia, fun _ => by lia⟩, q6⟩
theorem is_lp {N : Nat} {σ : mS} {h p L : Int32} {v : Nat} (hv : x_ba v L) (h0 : 12000 ≤ h) (h1 : x_sv σ h) (p0 : 0 ≤ p) (pL : p + x_sz σ h ≤ L) (pp : p ≤ p + x_sz σ h) : ∀ (n : Nat) (i : Int32), 0 ≤ i → i ≤ x_sz σ h → ((x_sz σ h).toInt - i.toInt).toNat < n → (∃ r : Int32, xx2_is_b6 N n h v p 1 i σ = some (r, σ) ∧ (r = 1 ∨ r = 0) ∧ (r = 1 ↔ ∀ k, i ≤ k → k < x_sz σ h → sI σ 132 (sI σ 128 h + k) = sI σ v (p + k))) ∧ xx2_is_b6 N n h v p 0 i σ = some (0, σ) := by
  refine loop_up _ (fun n i i0 i1 ih => ?_)
  obtain ⟨a1, a2, a3, a4, a5, a6, a7, a8⟩ := h1
  have a9 := a8 h0
  have e0 : x_sz σ h = sI σ 129 h := rfl
  rw [xx2_is_b6, xx2_is_b6]
  by_cases c : i < x_sz σ h
  · refine ⟨?_, by simp (disch := lia) only [xx2_is_b58, lt, gd_in, if_pos, if_neg, ↓reduceIte, gd_z0, gd_z1, gd_tt, sF_fold, sG_fold, sI_fold, sJ_fold]⟩
    simp (disch := lia) only [xx2_is_b58, xx2_is_b50, lt, gd_in, if_pos, if_neg, ↓reduceIte, gd_z0, gd_z1, gd_tt, sF_fold, sG_fold, sI_fold, sJ_fold, hv.1, gd_ba hv]
    by_cases d : sI σ 132 (sI σ 128 h + i) = sI σ v (p + i)
    · obtain ⟨⟨r, i1, i2, i3⟩, _⟩ := ih c
      refine ⟨r, by rw [if_pos d]; exact i1, i2, i3.trans ⟨fun q k hk hk' => ?_, fun q k hk => q k (by lia)⟩⟩
      by_cases e : k = i
      · rw [e]; exact d
      · exact q k (by lia) hk'
    · exact ⟨0, by rw [if_neg d]; exact (ih c).2, .inr rfl, fun q => absurd q (by decide), fun q => absurd (q i (by lia) c) d⟩
  · refine ⟨⟨1, by simp (disch := lia) only [xx2_is_b58, lt, gd_in, if_pos, if_neg, ↓reduceIte, gd_z0, gd_z1, gd_tt, sF_fold, sG_fold, sI_fold, sJ_fold], .inl rfl, fun _ k hk hk' => by lia, fun _ => rfl⟩, by simp (disch := lia) only [xx2_is_b58, lt, gd_in, if_pos, if_neg, ↓reduceIte, gd_z0, gd_z1, gd_tt, sF_fold, sG_fold, sI_fold, sJ_fold]⟩
theorem text_l1 {N : Nat} {σ : mS} {p n L : Int32} {v : Nat} (hv : x_ba v L) (p0 : 0 ≤ p) (pn : p ≤ p + n) (pL : p + n ≤ L) : ∀ (k : Nat) (i : Int32), 0 ≤ i → i ≤ n → (n.toInt - i.toInt).toNat < k → xx2_text_2_b6 N k v p n (hof n (fun m => sI σ v (p + m) &&& 255) i) i σ = xx2_text_2_b41 N N v p n (hof n (fun m => sI σ v (p + m) &&& 255) n) (spr (hof n (fun m => sI σ v (p + m) &&& 255) n)) σ := by
  refine loop_up _ (fun k i i0 i1 ih => ?_)
  rw [xx2_text_2_b6]
  by_cases c : i < n
  · simp (disch := lia) only [lt, gd_in, if_pos, if_neg, ↓reduceIte, gd_z0, gd_z1, gd_tt, sF_fold, sG_fold, sI_fold, sJ_fold, hv.1, gd_ba hv, xx2_mix, bd]
    have e := hof_s (s := n) (f := fun m => sI σ v (p + m) &&& 255) i0 (by lia)
    rw [← e]
    exact ih c
  · have e : i = n := by lia
    subst e
    simp (disch := lia) only [lt, gd_in, if_pos, if_neg, ↓reduceIte, gd_z0, gd_z1, gd_tt, sF_fold, sG_fold, sI_fold, sJ_fold, xx2_spread, bd]
    rfl
/-- what text does: h has these bytes; nothing else changes but that it may be new -/
def tx_post (σ τ : mS) (v : Nat) (p n h : Int32) : Prop := (∃ sl, TX τ sl) ∧ 12000 ≤ h ∧ h < sF τ 134 ∧ x_sz τ h = n ∧ (∀ k, 0 ≤ k → k < n → x_by τ h k = sI σ v (p + k) &&& 255) ∧ (∀ g, 0 ≤ g → g < sF σ 134 → x_sm σ τ g) ∧ (τ = σ ∨ h = sF σ 134 ∧ sF τ 134 = sF σ 134 + 1 ∧ sF τ 133 = sF σ 133 + n) ∧ (∀ k, k ≠ 133 → k ≠ 134 → sF τ k = sF σ k) ∧ (∀ m, sI τ 131 m = sI σ 131 m) ∧ (∀ m, sI τ 136 m = sI σ 136 m) ∧ (∀ m, sI τ 142 m = sI σ 142 m) ∧ x_fr 2 σ τ
theorem text_pst {σ τ : mS} {sl : Int32 → Int32} {p n T U q Hh j : Int32} {v : Nat} (H : TX σ sl) (hT : sF σ 134 = T) (hU : sF σ 133 = U) (n0 : 0 ≤ n) (cT : T < 44000) (cU : U + n ≤ 70000) (cn : n ≤ 70000) (hB : ∀ k, 0 ≤ k → k < n → isB (sI σ v (p + k))) (hno : ∀ g, 12000 ≤ g → g < T → ¬ (x_sz σ g = n ∧ ∀ k, 0 ≤ k → k < n → x_by σ g k = sI σ v (p + k) &&& 255)) (hH : hof n (fun m => sI σ v (p + m) &&& 255) n = Hh) (j0 : 0 ≤ j) (j1 : j < 65536) (hq : plc (spr Hh) j = q) (hz : sI σ 135 q = 0) (hp : ∀ i, 0 ≤ i → i < j → sI σ 135 (plc (spr Hh) i) ≠ 0)
    (f134 : sF τ 134 = T + 1) (f133 : sF τ 133 = U + n) (fo : ∀ k, k ≠ 133 → k ≠ 134 → sF τ k = sF σ k) (a128 : ∀ m, 0 ≤ m → sI τ 128 m = if m = T then U else sI σ 128 m) (a129 : ∀ m, 0 ≤ m → sI τ 129 m = if m = T then n else sI σ 129 m) (a130 : ∀ m, 0 ≤ m → sI τ 130 m = if m = T then Hh else sI σ 130 m) (a135 : ∀ m, 0 ≤ m → sI τ 135 m = if m = q then T + 1 else sI σ 135 m) (a132 : ∀ m, 0 ≤ m → sI τ 132 m = if U ≤ m ∧ m < U + n then sI σ v (p + (m - U)) else sI σ 132 m) (a131 : ∀ m, sI τ 131 m = sI σ 131 m) (a136 : ∀ m, sI τ 136 m = sI σ 136 m) (a142 : ∀ m, sI τ 142 m = sI σ 142 m) (fr : x_fr 2 σ τ) : tx_post σ τ v p n T := by
  have t1 : 12000 ≤ T := by rw [← hT]; exact H.1
  have t3 : 0 ≤ U := by rw [← hU]; exact H.2.2.1
  have t4 : U ≤ 70000 := by rw [← hU]; exact H.2.2.2.1
  have t6 : ∀ h, 12000 ≤ h → h < T → 0 ≤ sI σ 128 h ∧ 0 ≤ sI σ 129 h ∧ sI σ 128 h ≤ 70000 ∧ sI σ 129 h ≤ 70000 ∧ sI σ 128 h + sI σ 129 h ≤ U ∧ x_hs σ h := by rw [← hT, ← hU]; exact H.2.2.2.2.2.1
  have b128 : ∀ m, 0 ≤ m → m ≠ T → sI τ 128 m = sI σ 128 m := fun m m0 c => by rw [a128 m m0, if_neg c]
  have b129 : ∀ m, 0 ≤ m → m ≠ T → sI τ 129 m = sI σ 129 m := fun m m0 c => by rw [a129 m m0, if_neg c]
  have b130 : ∀ m, 0 ≤ m → m ≠ T → sI τ 130 m = sI σ 130 m := fun m m0 c => by rw [a130 m m0, if_neg c]
  have T0 : 0 ≤ T := by lia
  have c128 : sI τ 128 T = U := by rw [a128 T T0, if_pos rfl]
  have c129 : sI τ 129 T = n := by rw [a129 T T0, if_pos rfl]
  have c130 : sI τ 130 T = Hh := by rw [a130 T T0, if_pos rfl]
  have b132 : ∀ m, 0 ≤ m → m < U → sI τ 132 m = sI σ 132 m := fun m m0 c => by rw [a132 m m0, if_neg (by lia)]
  have c132 : ∀ k, 0 ≤ k → k < n → sI τ 132 (U + k) = sI σ v (p + k) := fun k k0 k1 => by
    rw [a132 (U + k) (by lia), if_pos (by lia), show U + k - U = k by lia]
  clear a128 a129 a130
  have hsm : ∀ g, 0 ≤ g → g < T → x_sm σ τ g := by
    intro g g0 g1
    have gT : g ≠ T := by lia
    refine ⟨b128 g g0 gT, b129 g g0 gT, b130 g g0 gT, fun k k0 k1 => ?_⟩
    simp only [x_by]
    rw [b128 g g0 gT]
    by_cases c : g < 12000
    · rw [if_pos c, if_pos c, a131]
    · obtain ⟨q1, q2, q3, q4, q5, q6⟩ := t6 g (by lia) g1
      rw [if_neg c, if_neg c, b132 _ (by lia) (by lia)]
  have szT : x_sz τ T = n := c129
  have byT : ∀ k, 0 ≤ k → k < n → x_by τ T k = sI σ v (p + k) &&& 255 := by
    intro k k0 k1
    simp only [x_by]
    rw [if_neg (by lia), c128, c132 k k0 k1]
  have hdis : ∀ g, 12000 ≤ g → g < T → ¬ x_eq τ g T := by
    intro g g0 g1 e
    have s := hsm g (by lia) g1
    have z : x_sz τ g = n := by rw [← szT, e.1]
    refine hno g g0 g1 ⟨?_, fun k k0 k1 => ?_⟩
    · rw [← z]; exact s.2.1.symm
    · rw [← s.2.2.2 k k0 (by rw [← s.2.1]; show k < x_sz τ g; rw [z]; exact k1), e.2 k k0 (by rw [z]; exact k1), byT k k0 k1]
  have pl := PL_add (pm := sI τ 135) (hs' := sI τ 130) (j := j) H.2.2.2.2.1 H.1 (by rw [hT]; exact cT) (fun h h0 h1 => b130 h (by lia) (by lia)) j0 j1
  rw [hT, c130, hq] at pl
  have pl := pl hz hp (by rw [a135 q (by rw [← hq]; exact (plc_rng (@spr_rng Hh).1 (@spr_rng Hh).2 j0 j1).1), if_pos rfl]) (fun w w0 w1 w2 => by rw [a135 w w0, if_neg w2])
  refine ⟨⟨fun h => if h = T then q else sl h, ?_⟩, t1, by rw [f134]; lia, szT, byT, by rw [hT]; exact hsm, .inr ⟨hT.symm, by rw [f134, hT], by rw [f133, hU]⟩, fo, a131, a136, a142, fr⟩
  have t7 := H.2.2.2.2.2.2.1
  have t8 := H.2.2.2.2.2.2.2.1
  have t9 := H.2.2.2.2.2.2.2.2.1
  have t11 := H.2.2.2.2.2.2.2.2.2.2.1
  have t12 := H.2.2.2.2.2.2.2.2.2.2.2
  rw [hT] at t7 t8 t9 t11
  rw [hU] at t9 t12
  simp only [TX]
  rw [f134, f133]
  refine ⟨by lia, by lia, by lia, cU, pl, ?_, ?_, ?_, ?_, ?_, ?_, ?_⟩
  · intro h h0 h1
    by_cases c : h = T
    · subst c
      rw [c128, c129]
      refine ⟨t3, n0, t4, cn, by lia, ?_⟩
      simp only [x_hs]
      rw [szT, c130, ← hH]
      exact hof_congr n0 (fun k k0 k1 => (byT k k0 k1).symm)
    · have hlt : h < T := by lia
      obtain ⟨q1, q2, q3, q4, q5, q6⟩ := t6 h h0 hlt
      have s := hsm h (by lia) hlt
      rw [s.1, s.2.1]
      exact ⟨q1, q2, q3, q4, by lia, sm_hs s q2 q6⟩
  · intro h h0 hx h1
    have hp0 : 0 ≤ h := by lia
    have hnT : h ≠ T := by lia
    rw [b128 h hp0 hnT, b129 h hp0 hnT]
    by_cases c : h + 1 = T
    · rw [c, c128, ← t9 (by lia), show T - 1 = h by lia]
    · rw [b128 (h + 1) (by lia) c]
      exact t7 h h0 hx (by lia)
  · intro g h g0 g1 h1
    have gT : g ≠ T := by lia
    have gp : 0 ≤ g := by lia
    rw [b128 g gp gT, b129 g gp gT]
    by_cases c : h = T
    · rw [c, c128]; exact (t6 g g0 (by lia)).2.2.2.2.1
    · rw [b128 h (by lia) c]; exact t8 g h g0 g1 (by lia)
  · intro _
    rw [show T + 1 - 1 = T by lia, c128, c129]
  · refine ⟨fun w => by exfalso; lia, fun _ => ?_⟩
    have t10 := H.2.2.2.2.2.2.2.2.2.1
    rw [hT, hU] at t10
    by_cases c : T = 12000
    · rw [← c, c128]; exact t10.1 c
    · rw [b128 12000 (by decide) (by lia)]; exact t10.2 (by lia)
  · intro g h g0 g1 h0 h1 e
    have L : ∀ x, x < T + 1 → x ≠ T → x < T := fun x x1 x2 => by lia
    by_cases c : g = T
    · by_cases d : h = T
      · rw [c, d]
      · subst c
        exact absurd ⟨e.1.symm, fun k k0 k1 => (e.2 k k0 (by rw [← e.1]; exact k1)).symm⟩ (hdis h h0 (L h h1 d))
    · by_cases d : h = T
      · subst d
        exact absurd e (hdis g g0 (L g g1 c))
      · have s := hsm g (by lia) (L g g1 c)
        have s' := hsm h (by lia) (L h h1 d)
        have e1 : sI σ 129 h = sI σ 129 g := by rw [← s.2.1, ← s'.2.1]; exact e.1
        refine t11 g h g0 (L g g1 c) h0 (L h h1 d) ⟨e1, fun k k0 k1 => ?_⟩
        have k2 : k < sI σ 129 g := k1
        rw [← s.2.2.2 k k0 k2, ← s'.2.2.2 k k0 (by rw [e1]; exact k2)]
        exact e.2 k k0 (by show k < sI τ 129 g; rw [s.2.1]; exact k2)
  · intro m m0 m1
    by_cases c : m < U
    · rw [b132 m m0 c]; exact t12 m m0 c
    · have := c132 (m - U) (by lia) (by lia)
      rw [show U + (m - U) = m by lia] at this
      rw [this]
      exact hB (m - U) (by lia) (by lia)
theorem text_new {N : Nat} {σ : mS} {sl : Int32 → Int32} {p n L j T U q Hh : Int32} {v : Nat} (H : TX σ sl) (hv : x_ba v L) (hL : L ≤ 1000000) (hne : v ≠ 128 ∧ v ≠ 129 ∧ v ≠ 130 ∧ v ≠ 132 ∧ v ≠ 135) (p0 : 0 ≤ p) (n0 : 0 ≤ n) (pn : p ≤ p + n) (pL : p + n ≤ L) (hT : sF σ 134 = T) (hU : sF σ 133 = U) (cT : T < 44000) (cU : U + n ≤ 70000) (cn : n ≤ 70000) (hB : ∀ k, 0 ≤ k → k < n → isB (sI σ v (p + k))) (hno : ∀ g, 12000 ≤ g → g < T → ¬ (x_sz σ g = n ∧ ∀ k, 0 ≤ k → k < n → x_by σ g k = sI σ v (p + k) &&& 255)) (hH : hof n (fun m => sI σ v (p + m) &&& 255) n = Hh) (j0 : 0 ≤ j) (j1 : j < 65536) (hq : plc (spr Hh) j = q) (hz : sI σ 135 q = 0) (hp : ∀ i, 0 ≤ i → i < j → sI σ 135 (plc (spr Hh) i) ≠ 0) (k : Nat) : ∃ h τ, xx2_text_2_b41 N (k + 1) v p n Hh q σ = some (h, τ) ∧ tx_post σ τ v p n h := by
  have r := plc_rng (@spr_rng Hh).1 (@spr_rng Hh).2 j0 j1
  rw [hq] at r
  obtain ⟨r1, r2⟩ := r
  have t1 : 12000 ≤ T := by rw [← hT]; exact H.1
  have t3 : 0 ≤ U := by rw [← hU]; exact H.2.2.1
  have t4 : U ≤ 70000 := by rw [← hU]; exact H.2.2.2.1
  refine ⟨T, md_pi (x_cp (md_ai (md_ai (md_ai (md_ai (md_pi σ 134 (T + 1)) 135 q.toNatClampNeg (T + 1)) 128 T.toNatClampNeg U) 129 T.toNatClampNeg n) 130 T.toNatClampNeg Hh) v p 132 U n) 133 (U + n), ?_, ?_⟩
  · clear hB hno hp hH H hq j0 j1
    rw [xx2_text_2_b41]
    simp (disch := lia) only [lt, gd_in, if_pos, if_neg, ↓reduceIte, gd_z0, gd_z1, gd_tt, sF_fold, sG_fold, sI_fold, sJ_fold, sF_pi, sF_pl, sF_ai, sF_al, sG_pi, sG_pl, sG_ai, sG_al, sI_pi, sI_pl, sI_al, sI_ai1, sI_ai2, sJ_pi, sJ_pl, sJ_ai, sJ_al1, sJ_al2, Nat.reduceEqDiff, if_true, if_false, ne_eq, not_false_eq_true, ite_true, ite_false, hz, hT, hU, hv.1, ba_132.1, cB_x hv, cB_x ba_132, Bool.and_true, sF_cp]
  · refine text_pst H hT hU n0 cT cU cn hB hno hH j0 j1 hq hz hp ?_ ?_ ?_ ?_ ?_ ?_ ?_ ?_ ?_ ?_ ?_ (fr_pi (fr_cp (fr_ai (fr_ai (fr_ai (fr_ai (fr_pi fr_rfl rfl) rfl) rfl) rfl) rfl) rfl) rfl)
    all_goals clear hB hno hp hH H hq j0 j1
    · simp only [sF_pi, sF_pl, sF_ai, sF_al, sG_pi, sG_pl, sG_ai, sG_al, sI_pi, sI_pl, sI_al, sI_ai1, sI_ai2, sJ_pi, sJ_pl, sJ_ai, sJ_al1, sJ_al2, Nat.reduceEqDiff, if_true, if_false, ne_eq, not_false_eq_true, ite_true, ite_false, sF_cp]
    · simp only [sF_pi, sF_pl, sF_ai, sF_al, sG_pi, sG_pl, sG_ai, sG_al, sI_pi, sI_pl, sI_al, sI_ai1, sI_ai2, sJ_pi, sJ_pl, sJ_ai, sJ_al1, sJ_al2, Nat.reduceEqDiff, if_true, if_false, ne_eq, not_false_eq_true, ite_true, ite_false, sF_cp]
    · intro k k1 k2
      simp only [sF_pi, sF_pl, sF_ai, sF_al, sG_pi, sG_pl, sG_ai, sG_al, sI_pi, sI_pl, sI_al, sI_ai1, sI_ai2, sJ_pi, sJ_pl, sJ_ai, sJ_al1, sJ_al2, Nat.reduceEqDiff, if_true, if_false, ne_eq, not_false_eq_true, ite_true, ite_false, sF_cp, if_neg k1, if_neg k2]
    · intro m m0
      simp (disch := lia) only [sF_pi, sF_pl, sF_ai, sF_al, sG_pi, sG_pl, sG_ai, sG_al, sI_pi, sI_pl, sI_al, sI_ai1, sI_ai2, sJ_pi, sJ_pl, sJ_ai, sJ_al1, sJ_al2, Nat.reduceEqDiff, if_true, if_false, ne_eq, not_false_eq_true, ite_true, ite_false, sI_cp1, sI_ai, true_and]
    · intro m m0
      simp (disch := lia) only [sF_pi, sF_pl, sF_ai, sF_al, sG_pi, sG_pl, sG_ai, sG_al, sI_pi, sI_pl, sI_al, sI_ai1, sI_ai2, sJ_pi, sJ_pl, sJ_ai, sJ_al1, sJ_al2, Nat.reduceEqDiff, if_true, if_false, ne_eq, not_false_eq_true, ite_true, ite_false, sI_cp1, sI_ai, true_and]
    · intro m m0
      simp (disch := lia) only [sF_pi, sF_pl, sF_ai, sF_al, sG_pi, sG_pl, sG_ai, sG_al, sI_pi, sI_pl, sI_al, sI_ai1, sI_ai2, sJ_pi, sJ_pl, sJ_ai, sJ_al1, sJ_al2, Nat.reduceEqDiff, if_true, if_false, ne_eq, not_false_eq_true, ite_true, ite_false, sI_cp1, sI_ai, true_and]
    · intro m m0
      simp (disch := lia) only [sF_pi, sF_pl, sF_ai, sF_al, sG_pi, sG_pl, sG_ai, sG_al, sI_pi, sI_pl, sI_al, sI_ai1, sI_ai2, sJ_pi, sJ_pl, sJ_ai, sJ_al1, sJ_al2, Nat.reduceEqDiff, if_true, if_false, ne_eq, not_false_eq_true, ite_true, ite_false, sI_cp1, sI_ai, true_and]
    · intro m m0
      rw [sI_pi, sI_cp p0 t3 n0 m0 (by lia) (by lia)]
      obtain ⟨v1, v2, v3, v4, v5⟩ := hne
      simp (disch := lia) only [sF_pi, sF_pl, sF_ai, sF_al, sG_pi, sG_pl, sG_ai, sG_al, sI_pi, sI_pl, sI_al, sI_ai1, sI_ai2, sJ_pi, sJ_pl, sJ_ai, sJ_al1, sJ_al2, Nat.reduceEqDiff, if_true, if_false, ne_eq, not_false_eq_true, ite_true, ite_false, true_and]
    · intro m
      simp (disch := lia) only [sF_pi, sF_pl, sF_ai, sF_al, sG_pi, sG_pl, sG_ai, sG_al, sI_pi, sI_pl, sI_al, sI_ai1, sI_ai2, sJ_pi, sJ_pl, sJ_ai, sJ_al1, sJ_al2, Nat.reduceEqDiff, if_true, if_false, ne_eq, not_false_eq_true, ite_true, ite_false, sI_cp1]
    · intro m
      simp (disch := lia) only [sF_pi, sF_pl, sF_ai, sF_al, sG_pi, sG_pl, sG_ai, sG_al, sI_pi, sI_pl, sI_al, sI_ai1, sI_ai2, sJ_pi, sJ_pl, sJ_ai, sJ_al1, sJ_al2, Nat.reduceEqDiff, if_true, if_false, ne_eq, not_false_eq_true, ite_true, ite_false, sI_cp1]
    · intro m
      simp (disch := lia) only [sF_pi, sF_pl, sF_ai, sF_al, sG_pi, sG_pl, sG_ai, sG_al, sI_pi, sI_pl, sI_al, sI_ai1, sI_ai2, sJ_pi, sJ_pl, sJ_ai, sJ_al1, sJ_al2, Nat.reduceEqDiff, if_true, if_false, ne_eq, not_false_eq_true, ite_true, ite_false, sI_cp1]
