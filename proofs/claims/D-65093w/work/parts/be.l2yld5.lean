/-! LAYER 2: yield, whole -/
theorem SV_y {e : EV} {w : WD} {σ μ τ τm : mS} (V : SV e w σ μ) (fr : m_fr yX σ τ) (frm : m_fr yM μ τm) (h : sF τ 406 = 0) : SV e w τ τm := by
  obtain ⟨h1, h2, h3, ⟨o1, o2, o3, o4⟩, h5, h6, h7⟩ := V
  have f524 : sF τ 524 = sF σ 524 := mf_F fr (yX_f (by omega))
  have f220 : sF τm 220 = sF μ 220 := mf_F frm (yM_f (by omega))
  refine ⟨mf_tr h1 (mf_mono fr (fun k hk => ?_)), mf_tr h2 (mf_mono frm (fun k hk => ?_)), h3, ⟨by rw [f524, f220]; exact o1, by rw [f524]; exact o2, by rw [f524]; exact o3, fun k k0 k1 => ?_⟩, h, by rw [mf_F frm (yM_f (by omega))]; exact h6, by rw [mf_F frm (yM_f (by omega))]; exact h7⟩
  · have := xR_f hk
    exact yX_f (by omega)
  · simp only [mR, inR, Bool.or_eq_false_iff, Bool.and_eq_false_iff, decide_eq_false_iff_not] at hk
    exact yM_f (by omega)
  · rw [f524] at k1
    rw [mf_I fr (yX_f (by omega)), mf_I frm (yM_f (by omega))]
    exact o4 k k0 k1
theorem yl79_lp {N : Nat} {σ : mS} {n a : Int32} (a0 : 0 ≤ a) (a1 : a < 121) (hn : sF σ 399 = n) (n0 : 0 ≤ n) (n1 : n ≤ 100) (tt : ∀ k, 0 ≤ k → k < n → 0 ≤ sI σ 397 k ∧ sI σ 397 k ≤ 8) (j : Nat) (i : Int32) (i0 : 0 ≤ i) (i1 : i ≤ n) (hj : (n.toInt - i.toInt).toNat < j) : ∀ τ : mS, m_fr vK σ τ → sF τ 402 = i → (∀ k, 0 ≤ k → k < i → sI τ 400 k = sI σ 397 k ∧ sJ τ 401 k = sJ σ 398 k) → ∃ υ, xx6_yield_b79 N j a i τ = (if sI υ 328 a = 0 then bx (xx6_giveBefore N υ 2) (fun z2 => xx6_yield_b130 N a z2) else xx6_yield_b130 N a υ) ∧ m_fr vK σ υ ∧ sF υ 402 = n ∧ (∀ k, 0 ≤ k → k < n → sI υ 400 k = sI σ 397 k ∧ sJ υ 401 k = sJ σ 398 k) := by
  refine loop_up (lo := 0) (m := n) (fun j i => ∀ τ : mS, m_fr vK σ τ → sF τ 402 = i → (∀ k, 0 ≤ k → k < i → sI τ 400 k = sI σ 397 k ∧ sJ τ 401 k = sJ σ 398 k) → ∃ υ, xx6_yield_b79 N j a i τ = (if sI υ 328 a = 0 then bx (xx6_giveBefore N υ 2) (fun z2 => xx6_yield_b130 N a z2) else xx6_yield_b130 N a υ) ∧ m_fr vK σ υ ∧ sF υ 402 = n ∧ (∀ k, 0 ≤ k → k < n → sI υ 400 k = sI σ 397 k ∧ sJ υ 401 k = sJ σ 398 k)) ?_ j i i0 i1 hj
  clear hj i0 i1 i j
  intro j i i0 i1 ih τ fr f402 hw
  have e1 : sI τ 397 i = sI σ 397 i := mf_I fr rfl
  have e2 : sJ τ 398 i = sJ σ 398 i := mf_J fr rfl
  have e3 : sF τ 399 = n := by rw [mf_F fr rfl]; exact hn
  by_cases c : n ≤ i
  · have ek : i = n := by clear ih hw tt; lia
    subst ek
    refine ⟨τ, ?_, fr, f402, hw⟩
    clear ih hw tt
    simp only [xx6_yield_b79, sF_fold, sI_fold, e3]
    rw [if_pos c, gd_in (by decide) a0 a1]
  · have t := tt i i0 (Int32.not_le.mp c)
    have c' := Int32.not_le.mp c
    obtain ⟨τ2, g1, g2, g3, g4, g5, g6⟩ := give1_x (N := N) (σ := τ) (n := i) (t := sI σ 397 i) (v := sJ σ 398 i) f402 i0 (Int32.lt_of_lt_of_le c' n1) t.1 t.2
    have st : xx6_yield_b79 N (j + 1) a i τ = xx6_yield_b79 N j a (i + 1) τ2 := by
      clear ih hw tt
      simp (disch := lia) only [xx6_yield_b79, lt, gd_in, if_pos, if_neg, ↓reduceIte, gd_z0, gd_z1, gd_tt, sF_fold, sG_fold, sI_fold, sJ_fold, e1, e2, e3, g1, bx]
    rw [st]
    refine ih c' τ2 (mf_tr fr g2) g3 (fun k k0 k1 => ?_)
    by_cases z : k = i
    · subst z; exact ⟨g5, g6⟩
    · have ki : k < i := by clear ih hw tt; lia
      have := g4 k k0 ki
      rw [this.1, this.2]; exact hw k k0 ki
def yldX (c c2 a1 a2 a3 : Int32) (σ : mS) : mS := md_pi (md_pi (md_ai (md_pi (md_ai (md_ai (md_ai (md_ai σ 332 c.toNatClampNeg a1) 333 c.toNatClampNeg a2) 334 c.toNatClampNeg a3) 323 c.toNatClampNeg 0) 339 c2) 323 c2.toNatClampNeg 1) 358 (sF σ 358 - 1)) 402 0
theorem yldX_p {c c2 a1 a2 a3 : Int32} {σ : mS} (c0 : 0 ≤ c) (c20 : 0 ≤ c2) : m_fr (fun k => [323, 332, 333, 334, 339, 358, 402].contains k) σ (yldX c c2 a1 a2 a3 σ) ∧ (∀ x, 0 ≤ x → sI (yldX c c2 a1 a2 a3 σ) 323 x = if x = c2 then 1 else if x = c then 0 else sI σ 323 x) ∧ (∀ x, 0 ≤ x → sI (yldX c c2 a1 a2 a3 σ) 332 x = if x = c then a1 else sI σ 332 x) ∧ (∀ x, 0 ≤ x → sI (yldX c c2 a1 a2 a3 σ) 333 x = if x = c then a2 else sI σ 333 x) ∧ (∀ x, 0 ≤ x → sI (yldX c c2 a1 a2 a3 σ) 334 x = if x = c then a3 else sI σ 334 x) ∧ sF (yldX c c2 a1 a2 a3 σ) 339 = c2 ∧ sF (yldX c c2 a1 a2 a3 σ) 358 = sF σ 358 - 1 ∧ sF (yldX c c2 a1 a2 a3 σ) 402 = 0 := by
  refine ⟨mf_pi (mf_pi (mf_ai (mf_pi (mf_ai (mf_ai (mf_ai (mf_ai mf_rfl rfl) rfl) rfl) rfl) rfl) rfl) rfl) rfl, fun x x0 => ?_, fun x x0 => ?_, fun x x0 => ?_, fun x x0 => ?_, ?_, ?_, ?_⟩
  · simp (disch := lia) only [yldX, sF_pi, sF_pl, sF_ai, sF_al, sG_pi, sG_pl, sG_ai, sG_al, sI_pi, sI_pl, sI_al, sI_ai1, sI_ai2, sJ_pi, sJ_pl, sJ_ai, sJ_al1, sJ_al2, Nat.reduceEqDiff, if_true, if_false, ne_eq, not_false_eq_true, ite_true, ite_false, sI_ai c0 x0, sI_ai c20 x0, true_and, false_and]
  · simp (disch := lia) only [yldX, sF_pi, sF_pl, sF_ai, sF_al, sG_pi, sG_pl, sG_ai, sG_al, sI_pi, sI_pl, sI_al, sI_ai1, sI_ai2, sJ_pi, sJ_pl, sJ_ai, sJ_al1, sJ_al2, Nat.reduceEqDiff, if_true, if_false, ne_eq, not_false_eq_true, ite_true, ite_false, sI_ai c0 x0, sI_ai c20 x0, true_and, false_and]
  · simp (disch := lia) only [yldX, sF_pi, sF_pl, sF_ai, sF_al, sG_pi, sG_pl, sG_ai, sG_al, sI_pi, sI_pl, sI_al, sI_ai1, sI_ai2, sJ_pi, sJ_pl, sJ_ai, sJ_al1, sJ_al2, Nat.reduceEqDiff, if_true, if_false, ne_eq, not_false_eq_true, ite_true, ite_false, sI_ai c0 x0, sI_ai c20 x0, true_and, false_and]
  · simp (disch := lia) only [yldX, sF_pi, sF_pl, sF_ai, sF_al, sG_pi, sG_pl, sG_ai, sG_al, sI_pi, sI_pl, sI_al, sI_ai1, sI_ai2, sJ_pi, sJ_pl, sJ_ai, sJ_al1, sJ_al2, Nat.reduceEqDiff, if_true, if_false, ne_eq, not_false_eq_true, ite_true, ite_false, sI_ai c0 x0, sI_ai c20 x0, true_and, false_and]
  · simp only [yldX, sF_pi, sF_pl, sF_ai, sF_al, sG_pi, sG_pl, sG_ai, sG_al, sI_pi, sI_pl, sI_al, sI_ai1, sI_ai2, sJ_pi, sJ_pl, sJ_ai, sJ_al1, sJ_al2, Nat.reduceEqDiff, if_true, if_false, ne_eq, not_false_eq_true, ite_true, ite_false]
  · simp only [yldX, sF_pi, sF_pl, sF_ai, sF_al, sG_pi, sG_pl, sG_ai, sG_al, sI_pi, sI_pl, sI_al, sI_ai1, sI_ai2, sJ_pi, sJ_pl, sJ_ai, sJ_al1, sJ_al2, Nat.reduceEqDiff, if_true, if_false, ne_eq, not_false_eq_true, ite_true, ite_false]
  · simp only [yldX, sF_pi, sF_pl, sF_ai, sF_al, sG_pi, sG_pl, sG_ai, sG_al, sI_pi, sI_pl, sI_al, sI_ai1, sI_ai2, sJ_pi, sJ_pl, sJ_ai, sJ_al1, sJ_al2, Nat.reduceEqDiff, if_true, if_false, ne_eq, not_false_eq_true, ite_true, ite_false]
theorem yld_x {N : Nat} {c c2 a1 a2 a3 : Int32} {σ : mS} (h : sF σ 339 = c) (cn : c ≠ 0) (c0 : 0 ≤ c) (c1 : c < 121) (h2 : sI σ 327 c = c2) (c20 : 0 ≤ c2) (c21 : c2 < 121) : xx6_yield N σ a1 a2 a3 = xx6_yield_b79 N N c 0 (yldX c c2 a1 a2 a3 σ) := by
  have nb0 : vp_nar .byte (0 : Int32) = 0 := nar_tg (by decide) (by decide)
  obtain ⟨s1, hs⟩ : ∃ s1, s1 = md_ai (md_ai (md_ai (md_ai σ 332 c.toNatClampNeg a1) 333 c.toNatClampNeg a2) 334 c.toNatClampNeg a3) 323 c.toNatClampNeg 0 := ⟨_, rfl⟩
  have e27 : sI s1 327 c = c2 := by rw [hs]; simp only [sF_pi, sF_pl, sF_ai, sF_al, sG_pi, sG_pl, sG_ai, sG_al, sI_pi, sI_pl, sI_al, sI_ai1, sI_ai2, sJ_pi, sJ_pl, sJ_ai, sJ_al1, sJ_al2, Nat.reduceEqDiff, if_true, if_false, ne_eq, not_false_eq_true, ite_true, ite_false]; exact h2
  have e58 : sF s1 358 = sF σ 358 := by rw [hs]; simp only [sF_pi, sF_pl, sF_ai, sF_al, sG_pi, sG_pl, sG_ai, sG_al, sI_pi, sI_pl, sI_al, sI_ai1, sI_ai2, sJ_pi, sJ_pl, sJ_ai, sJ_al1, sJ_al2, Nat.reduceEqDiff, if_true, if_false, ne_eq, not_false_eq_true, ite_true, ite_false]
  have bk := back_x (N := N) (σ := s1) c0 c1 e27 c20 c21
  rw [e58] at bk
  simp (disch := first | exact cn | lia) only [xx6_yield, lt, gd_in, if_pos, if_neg, ↓reduceIte, gd_z0, gd_z1, gd_tt, sF_fold, sG_fold, sI_fold, sJ_fold, h, nb0, ← hs, bk, bd, xx6_clearGives]
  rw [yldX, ← hs]
def layR (to wn th d b : Int32) (υ : mS) : mS := md_pi (md_pi (layF to wn th d b υ) 154 (sI υ 162 d - 1)) 155 (sF υ 155 - 1)
theorem layR_p {to wn th d b : Int32} {υ : mS} (d0 : 0 ≤ d) (e0 : 0 ≤ sI υ 160 d) : m_fr (fun k => [143, 154, 155, 156, 167, 168, 169, 172].contains k) υ (layR to wn th d b υ) ∧ sF (layR to wn th d b υ) 154 = sI υ 162 d - 1 ∧ sF (layR to wn th d b υ) 155 = sF υ 155 - 1 ∧ (∀ x, 0 ≤ x → sI (layR to wn th d b υ) 156 x = if x = sI υ 160 d then 1 else if x = d then 0 else sI υ 156 x) ∧ sF (layR to wn th d b υ) 172 = sI υ 160 d ∧ (∀ x, 0 ≤ x → sI (layR to wn th d b υ) 167 x = if x = d then to - b else sI υ 167 x) ∧ (∀ x, 0 ≤ x → sI (layR to wn th d b υ) 168 x = if x = d then wn else sI υ 168 x) ∧ (∀ x, 0 ≤ x → sI (layR to wn th d b υ) 169 x = if x = d then th else sI υ 169 x) := by
  refine ⟨mf_pi (mf_pi (mf_ai (mf_pi (mf_ai (mf_pi (mf_pi (mf_ai (mf_ai (mf_ai mf_rfl rfl) rfl) rfl) rfl) rfl) rfl) rfl) rfl) rfl) rfl, ?_, ?_, fun x x0 => ?_, ?_, fun x x0 => ?_, fun x x0 => ?_, fun x x0 => ?_⟩
  · simp only [layR, layF, sF_pi, sF_pl, sF_ai, sF_al, sG_pi, sG_pl, sG_ai, sG_al, sI_pi, sI_pl, sI_al, sI_ai1, sI_ai2, sJ_pi, sJ_pl, sJ_ai, sJ_al1, sJ_al2, Nat.reduceEqDiff, if_true, if_false, ne_eq, not_false_eq_true, ite_true, ite_false]
  · simp only [layR, layF, sF_pi, sF_pl, sF_ai, sF_al, sG_pi, sG_pl, sG_ai, sG_al, sI_pi, sI_pl, sI_al, sI_ai1, sI_ai2, sJ_pi, sJ_pl, sJ_ai, sJ_al1, sJ_al2, Nat.reduceEqDiff, if_true, if_false, ne_eq, not_false_eq_true, ite_true, ite_false]
  · simp (disch := lia) only [layR, layF, sF_pi, sF_pl, sF_ai, sF_al, sG_pi, sG_pl, sG_ai, sG_al, sI_pi, sI_pl, sI_al, sI_ai1, sI_ai2, sJ_pi, sJ_pl, sJ_ai, sJ_al1, sJ_al2, Nat.reduceEqDiff, if_true, if_false, ne_eq, not_false_eq_true, ite_true, ite_false, sI_ai d0 x0, sI_ai e0 x0, true_and, false_and]
  · simp only [layR, layF, sF_pi, sF_pl, sF_ai, sF_al, sG_pi, sG_pl, sG_ai, sG_al, sI_pi, sI_pl, sI_al, sI_ai1, sI_ai2, sJ_pi, sJ_pl, sJ_ai, sJ_al1, sJ_al2, Nat.reduceEqDiff, if_true, if_false, ne_eq, not_false_eq_true, ite_true, ite_false]
  · simp (disch := lia) only [layR, layF, sF_pi, sF_pl, sF_ai, sF_al, sG_pi, sG_pl, sG_ai, sG_al, sI_pi, sI_pl, sI_al, sI_ai1, sI_ai2, sJ_pi, sJ_pl, sJ_ai, sJ_al1, sJ_al2, Nat.reduceEqDiff, if_true, if_false, ne_eq, not_false_eq_true, ite_true, ite_false, sI_ai d0 x0, sI_ai e0 x0, true_and, false_and]
  · simp (disch := lia) only [layR, layF, sF_pi, sF_pl, sF_ai, sF_al, sG_pi, sG_pl, sG_ai, sG_al, sI_pi, sI_pl, sI_al, sI_ai1, sI_ai2, sJ_pi, sJ_pl, sJ_ai, sJ_al1, sJ_al2, Nat.reduceEqDiff, if_true, if_false, ne_eq, not_false_eq_true, ite_true, ite_false, sI_ai d0 x0, sI_ai e0 x0, true_and, false_and]
  · simp (disch := lia) only [layR, layF, sF_pi, sF_pl, sF_ai, sF_al, sG_pi, sG_pl, sG_ai, sG_al, sI_pi, sI_pl, sI_al, sI_ai1, sI_ai2, sJ_pi, sJ_pl, sJ_ai, sJ_al1, sJ_al2, Nat.reduceEqDiff, if_true, if_false, ne_eq, not_false_eq_true, ite_true, ite_false, sI_ai d0 x0, sI_ai e0 x0, true_and, false_and]
theorem toR_m {N : Nat} {to wn th d b : Int32} {υ : mS} (k0 : 0 ≤ sI υ 162 d - 1) (k1 : sI υ 162 d - 1 < 256) : mm_toResumer N (layF to wn th d b υ) = (if sI (layR to wn th d b υ) 144 (sF (layR to wn th d b υ) 154) = 2 then bd (mm_before N (layR to wn th d b υ) 1 1) (fun z4 => mm_toResumer_39 N (rc_finish N 449) z4) else mm_toResumer_39 N (rc_finish N 449) (layR to wn th d b υ)) := by
  show mb_toResumer N (rc_finish N 449) (layF to wn th d b υ) = _
  have a1 : sF (layF to wn th d b υ) 154 = sI υ 162 d := by simp only [layF, sF_pi, sF_pl, sF_ai, sF_al, sG_pi, sG_pl, sG_ai, sG_al, sI_pi, sI_pl, sI_al, sI_ai1, sI_ai2, sJ_pi, sJ_pl, sJ_ai, sJ_al1, sJ_al2, Nat.reduceEqDiff, if_true, if_false, ne_eq, not_false_eq_true, ite_true, ite_false]
  have a2 : sF (layF to wn th d b υ) 155 = sF υ 155 := by simp only [layF, sF_pi, sF_pl, sF_ai, sF_al, sG_pi, sG_pl, sG_ai, sG_al, sI_pi, sI_pl, sI_al, sI_ai1, sI_ai2, sJ_pi, sJ_pl, sJ_ai, sJ_al1, sJ_al2, Nat.reduceEqDiff, if_true, if_false, ne_eq, not_false_eq_true, ite_true, ite_false]
  have a3 : sF (layR to wn th d b υ) 154 = sI υ 162 d - 1 := by simp only [layR, sF_pi, sF_pl, sF_ai, sF_al, sG_pi, sG_pl, sG_ai, sG_al, sI_pi, sI_pl, sI_al, sI_ai1, sI_ai2, sJ_pi, sJ_pl, sJ_ai, sJ_al1, sJ_al2, Nat.reduceEqDiff, if_true, if_false, ne_eq, not_false_eq_true, ite_true, ite_false]
  have a4 : sF (md_pi (layF to wn th d b υ) 154 (sI υ 162 d - 1)) 155 = sF υ 155 := by simp only [sF_pi, sF_pl, sF_ai, sF_al, sG_pi, sG_pl, sG_ai, sG_al, sI_pi, sI_pl, sI_al, sI_ai1, sI_ai2, sJ_pi, sJ_pl, sJ_ai, sJ_al1, sJ_al2, Nat.reduceEqDiff, if_true, if_false, ne_eq, not_false_eq_true, ite_true, ite_false]; exact a2
  simp only [mb_toResumer, lt, sF_fold, sI_fold]
  rw [a1, a4]
  rw [show md_pi (md_pi (layF to wn th d b υ) 154 (sI υ 162 d - 1)) 155 (sF υ 155 - 1) = layR to wn th d b υ from rfl, gd_in (by decide) (by rw [a3]; exact k0) (by rw [a3]; exact k1)]
theorem give_Gd {e : EV} (E : EVok e) {M : Nat} {F : Int32} (GF : GFst e M F 200 200) {w : WD} {xf : Int32 → List Int32} {c d : Int32} {rest : PL2} {ct : CT} {σ μ : mS} {gn : Int32} (H : CL e w xf c d rest ct σ μ) (gv : GV w σ μ gn) (g1 : gn ≤ 100) (hF : sF σ 396 = F) {dd : Nat} (hd : 425 ≤ dd) : G2 e 1000 (M + 1) (xx6_give (eN e) σ ct.1 ct.2.1 ct.2.2.1) ((rc_finish (eN e) dd).2.1 μ ct.2.2.2.1 ct.2.2.2.2.1 ct.2.2.2.2.2) := by
  have hE := E.1
  have bb := (CL_b H).2.2.1
  have b3 : (sF μ 154).toInt ≤ 200 := by have := bb.2.2; rw [tI_le] at this; exact this
  have g3 : gn.toInt ≤ 100 := by rw [tI_le] at g1; exact g1
  exact GF w xf c d rest σ μ gn ct dd 1000 (eN e) (by omega) H.1 H.2.1 H.2.2 gv g1 hF bb.2.2 (by omega) (by omega) (by omega) (by omega)
theorem res39 {N : Nat} {T : ty_finish} {z : mS} {n : Int32} (h : sF z 154 = n) (h0 : 0 ≤ n) (h1 : n < 256) : mm_toResumer_39 N T z = T.2.1 z (sI z 149 n) (sI z 150 n) (sI z 151 n) := by
  simp (disch := lia) only [mm_toResumer_39, lt, gd_in, if_pos, if_neg, ↓reduceIte, gd_z0, gd_z1, gd_tt, sF_fold, sG_fold, sI_fold, sJ_fold, h, bd_id]
theorem y_m {a m : Int32} (h0 : 0 ≤ a) (h : a ≤ m) (h1 : m ≤ 200) : m - 1 ≤ 200 := by lia
theorem y_l {n : Int32} (h : n ≤ 100) (h1 : ¬ n = 100) : n < 100 := by lia
theorem y_s {n : Int32} (h0 : 0 ≤ n) (h : n ≤ 100) (h1 : ¬ n = 100) : n + 1 ≤ 100 := by lia
/-- what is given goes to the one that resumed -/
theorem toRes_2 {e : EV} (E : EVok e) {M : Nat} {F : Int32} (GF : GFst e M F 200 200) (RA : RAst e M F 200 200) {w : WD} {xf : Int32 → List Int32} {c c2 d2 n m : Int32} {rest : PL2} {ct : CT} {σ μ : mS} (H : CL e w xf c2 d2 rest ct σ μ) (gv : GV w σ μ n) (g1 : n ≤ 100) (hF : sF σ 396 = F) (hm : sF μ 154 = m) (h1 : ct = (sI σ 329 c, sI σ 330 c, sI σ 331 c, sI μ 149 m, sI μ 150 m, sI μ 151 m)) (c0 : 0 ≤ c) (c1 : c < 121) (kd : (sI σ 328 c = 0 ∧ sI μ 144 m = 2) ∨ (sI σ 328 c = 1 ∧ sI μ 144 m = 3)) : G2 e 1000 (M + 1) (if sI σ 328 c = 0 then bx (xx6_giveBefore (eN e) σ 2) (fun z2 => xx6_yield_b130 (eN e) c z2) else xx6_yield_b130 (eN e) c σ) (if sI μ 144 (sF μ 154) = 2 then bd (mm_before (eN e) μ 1 1) (fun z4 => mm_toResumer_39 (eN e) (rc_finish (eN e) 449) z4) else mm_toResumer_39 (eN e) (rc_finish (eN e) 449) μ) := by
  have hN := EV_N E
  have hE := E.1
  have bb := CL_b H
  have m0 : 0 ≤ m ∧ m < 256 ∧ m - 1 ≤ 200 := by
    obtain ⟨_, _, ⟨q1, q2, q3⟩, _⟩ := bb
    rw [hm] at q2 q3
    exact ⟨Int32.le_trans q1 q2, Int32.lt_of_le_of_lt q3 (by decide), y_m q1 q2 q3⟩
  have mt : (sF μ 154).toInt ≤ 200 := by have := bb.2.2.1.2.2; rw [tI_le] at this; exact this
  have b130 : ∀ z : mS, xx6_yield_b130 (eN e) c z = xx6_give (eN e) z (sI z 329 c) (sI z 330 c) (sI z 331 c) := fun z => by
    simp only [xx6_yield_b130, sI_fold]
    rw [gd_in (by decide) c0 c1, gd_in (by decide) c0 c1, gd_in (by decide) c0 c1]
    exact bx_ok
  rcases kd with ⟨w1, w2⟩ | ⟨w1, w2⟩
  · rw [hm, if_pos w1, if_pos w2]
    by_cases g100 : n = 100
    · obtain ⟨z, y1, y2, y3⟩ := before_m hN gv g1
      have z154 : sF z 154 = m := by rw [mf_F y2 rfl]; exact hm
      have Hz : CL e w xf c2 d2 rest ct σ z := CL_lt H (mf_rfl (σ := σ)) (vM_l y2) (CL_0 H)
      have fl := flt_2 E RA Hz.1 Hz.2.1 (FL_UN Hz.2.2) (FL_LK Hz.2.2) (t := 2) (tm := 8) (by decide) (by decide) tx_2 (by decide +kernel) hF (by rw [z154]; exact m0.2.2) (by rw [mf_F y2 rfl]; exact mt) (dd := 445) (j := 999) (by rw [mf_F y2 rfl]; omega) (by rw [mf_F y2 rfl]; omega) (by omega)
      have gb : xx6_giveBefore (eN e) σ 2 = bx (xx6_fault (eN e) σ (3000 + 2)) (fun z8 => some (Except.error (z8.1, z8.2))) := by
        have : sF σ 402 = 100 := by rw [gv.1]; exact g100
        simp only [xx6_giveBefore, sF_fold]
        rw [if_pos this]
      have eq1 : bx (xx6_giveBefore (eN e) σ 2) (fun z2 => xx6_yield_b130 (eN e) c z2) = bx (xx6_fault (eN e) σ (3000 + 2)) (fun z8 => some (Except.error (z8.1, z8.2))) := by
        rw [gb]
        cases xx6_fault (eN e) σ (3000 + 2) with
        | none => rfl
        | some u => cases u <;> rfl
      have eq2 : bd (mm_before (eN e) μ 1 1) (fun z4 => mm_toResumer_39 (eN e) (rc_finish (eN e) 449) z4) = (rc_finish (eN e) (445 + 3)).1 z 8 := by
        rw [y1]
        show mm_toResumer_39 (eN e) (rc_finish (eN e) 449) z = _
        rw [res39 z154 m0.1 m0.2.1]
        show mb_finish (eN e) (rc_finish (eN e) (445 + 3)) z _ _ _ = _
        have : ¬ sF z 190 ≤ 100 := by rw [y3, g100]; decide
        simp (disch := first | exact this | lia) only [mb_finish, lt, gd_in, if_pos, if_neg, ↓reduceIte, gd_z0, gd_z1, gd_tt, sF_fold, sG_fold, sI_fold, sJ_fold, bd_id]
      rw [eq1, eq2]
      exact fl
    · obtain ⟨σ4, μ4, y1, y2, y3, y4, y5⟩ := before_2 hN gv (y_l g1 g100)
      have z154 : sF μ4 154 = m := by rw [mf_F y5 rfl]; exact hm
      have H4 : CL e w xf c2 d2 rest ct σ4 μ4 := CL_lt H (vK_l y4) (vM_l y5) (by rw [mf_F y4 rfl]; exact CL_0 H)
      have g := give_Gd E GF H4 y3 (y_s gv.2.2.1 g1 g100) (by rw [mf_F y4 rfl]; exact hF) (dd := 449) (by omega)
      rw [y1, y2]
      show G2 e 1000 (M + 1) (xx6_yield_b130 (eN e) c σ4) (mm_toResumer_39 (eN e) (rc_finish (eN e) 449) μ4)
      rw [b130, res39 z154 m0.1 m0.2.1, mf_I y5 rfl, mf_I y5 rfl, mf_I y5 rfl, mf_I y4 rfl, mf_I y4 rfl, mf_I y4 rfl]
      rw [h1] at g
      exact g
  · rw [hm, if_neg (by rw [w1]; decide), if_neg (by rw [w2]; decide)]
    have g := give_Gd E GF H gv g1 hF (dd := 449) (by omega)
    rw [b130, res39 hm m0.1 m0.2.1]
    rw [h1] at g
    exact g
