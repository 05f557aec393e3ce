/-! LAYER 2: a coroutine is resumed on both sides -/
def BGst (e : EV) (M : Nat) (F n0 : Int32) (m : Nat) : Prop := ∀ w xf c d rest ct σ μ p n tx vx dx dm, CL e w xf c d rest ct σ μ → AR w σ μ p n → p = ct.2.2.2.1 → VV w tx vx (sI μ 141 p) (sJ μ 142 p) → tx ≠ 8 → sF σ 396 = F → sF μ 154 - 1 ≤ n0 → (200 - (sF σ 358).toInt) ≤ (m : Nat) → 5 * m + 20 ≤ dx → 4 * m + 20 ≤ dm → G2 e 1000 (M + 1) ((rc_xx6_begin (eN e) dx).1 σ tx vx ct.1 ct.2.1 ct.2.2.1) ((rc_call (eN e) dm).1 μ p n ct.2.2.2.2.1 ct.2.2.2.2.2)
theorem bx_ok {α : Type} {o : Option (Except (Nat × mS) α)} : bx o (fun z => some (.ok z)) = o := by
  cases o with
  | none => rfl
  | some u => cases u <;> rfl
theorem bx_oki {o : Option (Except (Nat × mS) (Int32 × mS))} : bx o (fun z => some (.ok (z.1, z.2))) = o := by
  cases o with
  | none => rfl
  | some u => cases u <;> rfl
theorem give_G2 {e : EV} (E : EVok e) {M : Nat} {F : Int32} (GF : GFst e M F 200 200) {w : WD} {xf : Int32 → List Int32} {c d : Int32} {rest : PL2} {ct : CT} {σ μ : mS} {gn : Int32} (H : CL e w xf c d rest ct σ μ) (gv : GV w σ μ gn) (g1 : gn ≤ 100) (hF : sF σ 396 = F) : G2 e 1000 (M + 1) (xx6_give (eN e) σ ct.1 ct.2.1 ct.2.2.1) (mm_finish (eN e) μ ct.2.2.2.1 ct.2.2.2.2.1 ct.2.2.2.2.2) := by
  have hE := E.1
  have bb := (CL_b H).2.2.1
  have b3 : (sF μ 154).toInt ≤ 200 := by have := bb.2.2; rw [tI_le] at this; exact this
  have g3 : gn.toInt ≤ 100 := by rw [tI_le] at g1; exact g1
  exact GF w xf c d rest σ μ gn ct 450 1000 (eN e) (by omega) H.1 H.2.1 H.2.2 gv g1 hF bb.2.2 (by omega) (by omega) (by omega) (by omega)
theorem SV_rs {e : EV} {w : WD} {σ μ τ τm : mS} (V : SV e w σ μ) (fr : m_fr rsX σ τ) (frm : m_fr rsM μ τm) (h : sF τ 406 = 0) : SV e w τ τm := by
  obtain ⟨h1, h2, h3, ⟨o1, o2, o3, o4⟩, h5, h6, h7⟩ := V
  have f524 : sF τ 524 = sF σ 524 := mf_F fr (rsX_f (by omega))
  have f220 : sF τm 220 = sF μ 220 := mf_F frm (rsM_f (by omega))
  refine ⟨mf_tr h1 (mf_mono fr (fun k hk => ?_)), mf_tr h2 (mf_mono frm (fun k hk => ?_)), h3, ⟨by rw [f524, f220]; exact o1, by rw [f524]; exact o2, by rw [f524]; exact o3, fun k k0 k1 => ?_⟩, h, by rw [mf_F frm (rsM_f (by omega))]; exact h6, by rw [mf_F frm (rsM_f (by omega))]; exact h7⟩
  · have := xR_f hk
    exact rsX_f (by omega)
  · simp only [mR, inR, Bool.or_eq_false_iff, Bool.and_eq_false_iff, decide_eq_false_iff_not] at hk
    exact rsM_f (by omega)
  · rw [f524] at k1
    rw [mf_I fr (rsX_f (by omega)), mf_I frm (rsM_f (by omega))]
    exact o4 k k0 k1
/-- the state of a coroutine on both sides -/
theorem CL_state {e : EV} {w : WD} {xf : Int32 → List Int32} {c d a b : Int32} {rest : PL2} {ct : CT} {σ μ : mS} (H : CL e w xf c d rest ct σ μ) (hab : (a, b) ∈ wC w ∨ (a = 0 ∧ b = 120)) : sI σ 323 a = sI μ 156 b ∧ (0 ≤ a ∧ a < 121 ∧ 0 ≤ b ∧ b < 121) ∧ (sI σ 323 a = 0 → (a, b) ∈ wC w) := by
  have W := H.1.1.1.1
  have h7 := H.1.2.2.2.2.2.2.1
  rcases hab with h | ⟨rfl, rfl⟩
  · have w6 := W.2.2.2.2.2 a b h
    have cb := (H.1.2.2.2.2.1.1 a b h)
    exact ⟨cb.2.1, ⟨by lia, by have := cb.1; lia, by lia, by lia⟩, fun _ => h⟩
  · have Bc := H.1.2.2.2.2.2.1
    have m := BC_120 Bc
    have r : sI σ 323 0 = sI μ 156 120 ∧ sI σ 323 0 ≠ 0 := by
      rcases List.mem_cons.mp m with z | z
      · obtain ⟨z1, z2⟩ := Prod.mk.inj z
        subst z1; subst z2
        rw [h7.2.2.1, h7.2.2.2]; decide
      · have := BC_st2 Bc _ z
        rw [this.1, this.2]; decide
    exact ⟨r.1, by decide, fun z => absurd z r.2⟩
theorem rsmX_p {σ : mS} {a c wr md rg wt : Int32} (a0 : 0 ≤ a) (c0 : 0 ≤ c) : m_fr rsX σ (rsmX a c wr md rg wt σ) ∧ (∀ x, 0 ≤ x → sI (rsmX a c wr md rg wt σ) 323 x = if x = a then 1 else if x = c then 2 else sI σ 323 x) ∧ (∀ k, 327 ≤ k → k ≤ 331 → ∀ x, 0 ≤ x → x ≠ a → sI (rsmX a c wr md rg wt σ) k x = sI σ k x) ∧ (sI (rsmX a c wr md rg wt σ) 327 a = c ∧ sI (rsmX a c wr md rg wt σ) 328 a = wr ∧ sI (rsmX a c wr md rg wt σ) 329 a = md ∧ sI (rsmX a c wr md rg wt σ) 330 a = rg ∧ sI (rsmX a c wr md rg wt σ) 331 a = wt) ∧ sF (rsmX a c wr md rg wt σ) 339 = a ∧ sF (rsmX a c wr md rg wt σ) 358 = sF σ 358 + 1 ∧ (∀ k, k ≠ 323 → (k < 327 ∨ 331 < k) → ∀ x, sI (rsmX a c wr md rg wt σ) k x = sI σ k x) ∧ (∀ k x, sJ (rsmX a c wr md rg wt σ) k x = sJ σ k x) ∧ (∀ k, k ≠ 339 → k ≠ 358 → sF (rsmX a c wr md rg wt σ) k = sF σ k) := by
  refine ⟨mf_pi (mf_ai (mf_ai (mf_ai (mf_ai (mf_ai (mf_ai (mf_ai (mf_pi mf_rfl rfl) rfl) rfl) rfl) rfl) rfl) rfl) rfl) rfl, fun x x0 => ?_, fun k k0 k1 x x0 xa => ?_, ⟨?_, ?_, ?_, ?_, ?_⟩, ?_, ?_, fun k k3 k7 x => ?_, fun k x => ?_, fun k k1 k2 => ?_⟩
  · simp (disch := lia) only [rsmX, sF_pi, sF_pl, sF_ai, sF_al, sG_pi, sG_pl, sG_ai, sG_al, sI_pi, sI_pl, sI_al, sI_ai1, sI_ai2, sJ_pi, sJ_pl, sJ_ai, sJ_al1, sJ_al2, Nat.reduceEqDiff, if_true, if_false, ne_eq, not_false_eq_true, ite_true, ite_false, sI_ai a0 x0, sI_ai c0 x0, true_and, false_and]
  · simp only [rsmX, sI_pi]
    rw [sI_ai a0 x0, if_neg (fun y => xa y.2), sI_ai a0 x0, if_neg (fun y => xa y.2), sI_ai a0 x0, if_neg (fun y => xa y.2), sI_ai a0 x0, if_neg (fun y => xa y.2), sI_ai a0 x0, if_neg (fun y => xa y.2), sI_ai a0 x0, if_neg (fun y => xa y.2), sI_ai1 (by omega)]
    simp only [sI_pi]
  · simp (disch := lia) only [rsmX, sF_pi, sF_pl, sF_ai, sF_al, sG_pi, sG_pl, sG_ai, sG_al, sI_pi, sI_pl, sI_al, sI_ai1, sI_ai2, sJ_pi, sJ_pl, sJ_ai, sJ_al1, sJ_al2, Nat.reduceEqDiff, if_true, if_false, ne_eq, not_false_eq_true, ite_true, ite_false]
  · simp (disch := lia) only [rsmX, sF_pi, sF_pl, sF_ai, sF_al, sG_pi, sG_pl, sG_ai, sG_al, sI_pi, sI_pl, sI_al, sI_ai1, sI_ai2, sJ_pi, sJ_pl, sJ_ai, sJ_al1, sJ_al2, Nat.reduceEqDiff, if_true, if_false, ne_eq, not_false_eq_true, ite_true, ite_false]
  · simp (disch := lia) only [rsmX, sF_pi, sF_pl, sF_ai, sF_al, sG_pi, sG_pl, sG_ai, sG_al, sI_pi, sI_pl, sI_al, sI_ai1, sI_ai2, sJ_pi, sJ_pl, sJ_ai, sJ_al1, sJ_al2, Nat.reduceEqDiff, if_true, if_false, ne_eq, not_false_eq_true, ite_true, ite_false]
  · simp (disch := lia) only [rsmX, sF_pi, sF_pl, sF_ai, sF_al, sG_pi, sG_pl, sG_ai, sG_al, sI_pi, sI_pl, sI_al, sI_ai1, sI_ai2, sJ_pi, sJ_pl, sJ_ai, sJ_al1, sJ_al2, Nat.reduceEqDiff, if_true, if_false, ne_eq, not_false_eq_true, ite_true, ite_false]
  · simp (disch := lia) only [rsmX, sF_pi, sF_pl, sF_ai, sF_al, sG_pi, sG_pl, sG_ai, sG_al, sI_pi, sI_pl, sI_al, sI_ai1, sI_ai2, sJ_pi, sJ_pl, sJ_ai, sJ_al1, sJ_al2, Nat.reduceEqDiff, if_true, if_false, ne_eq, not_false_eq_true, ite_true, ite_false]
  · simp only [rsmX, sF_pi, sF_pl, sF_ai, sF_al, sG_pi, sG_pl, sG_ai, sG_al, sI_pi, sI_pl, sI_al, sI_ai1, sI_ai2, sJ_pi, sJ_pl, sJ_ai, sJ_al1, sJ_al2, Nat.reduceEqDiff, if_true, if_false, ne_eq, not_false_eq_true, ite_true, ite_false]
  · simp only [rsmX, sF_pi, sF_pl, sF_ai, sF_al, sG_pi, sG_pl, sG_ai, sG_al, sI_pi, sI_pl, sI_al, sI_ai1, sI_ai2, sJ_pi, sJ_pl, sJ_ai, sJ_al1, sJ_al2, Nat.reduceEqDiff, if_true, if_false, ne_eq, not_false_eq_true, ite_true, ite_false]
  · simp only [rsmX, sI_pi]
    rw [sI_ai1 (by omega), sI_ai1 (by omega), sI_ai1 (by omega), sI_ai1 (by omega), sI_ai1 (by omega), sI_ai1 (by omega), sI_ai1 (by omega)]
    simp only [sI_pi]
  · simp only [rsmX, sF_pi, sF_pl, sF_ai, sF_al, sG_pi, sG_pl, sG_ai, sG_al, sI_pi, sI_pl, sI_al, sI_ai1, sI_ai2, sJ_pi, sJ_pl, sJ_ai, sJ_al1, sJ_al2, Nat.reduceEqDiff, if_true, if_false, ne_eq, not_false_eq_true, ite_true, ite_false]
  · simp only [rsmX, sF_pi, sF_pl, sF_ai, sF_al, sG_pi, sG_pl, sG_ai, sG_al, sI_pi, sI_pl, sI_al, sI_ai1, sI_ai2, sJ_pi, sJ_pl, sJ_ai, sJ_al1, sJ_al2, Nat.reduceEqDiff, if_true, if_false, ne_eq, not_false_eq_true, ite_true, ite_false, k1, k2]
theorem rsmM_p {μ : mS} {b d kd p wn th : Int32} (b0 : 0 ≤ b) (d0 : 0 ≤ d) (c0 : 0 ≤ sF μ 154) : m_fr rsM μ (rsmM b d kd p wn th μ) ∧ (∀ x, 0 ≤ x → sI (rsmM b d kd p wn th μ) 156 x = if x = b then 1 else if x = d then 2 else sI μ 156 x) ∧ (∀ k, (159 ≤ k ∧ k ≤ 162) ∨ k = 164 ∨ k = 166 → ∀ x, 0 ≤ x → x ≠ b → sI (rsmM b d kd p wn th μ) k x = sI μ k x) ∧ (∀ k, (k < 144 ∨ 153 < k) → k ≠ 156 → k ≠ 160 → k ≠ 161 → k ≠ 162 → ∀ x, sI (rsmM b d kd p wn th μ) k x = sI μ k x) ∧ (sI (rsmM b d kd p wn th μ) 160 b = d ∧ sI (rsmM b d kd p wn th μ) 161 b = sF μ 143 ∧ sI (rsmM b d kd p wn th μ) 162 b = sF μ 154 + 1) ∧ (sF (rsmM b d kd p wn th μ) 172 = b ∧ sF (rsmM b d kd p wn th μ) 154 = sF μ 154 + 1 ∧ sF (rsmM b d kd p wn th μ) 155 = sF μ 155 + 1) ∧ (∀ k, k ≠ 172 → k ≠ 154 → k ≠ 155 → sF (rsmM b d kd p wn th μ) k = sF μ k) ∧ (∀ k j, 0 ≤ k → k < sF μ 154 → j < 10 → mff (rsmM b d kd p wn th μ) k j = mff μ k j) ∧ (mff (rsmM b d kd p wn th μ) (sF μ 154) 0 = kd ∧ mff (rsmM b d kd p wn th μ) (sF μ 154) 5 = p ∧ mff (rsmM b d kd p wn th μ) (sF μ 154) 6 = wn ∧ mff (rsmM b d kd p wn th μ) (sF μ 154) 7 = th) ∧ (∀ k x, sJ (rsmM b d kd p wn th μ) k x = sJ μ k x) := by
  refine ⟨mf_pi (mf_ai (mf_ai (mf_ai (mf_ai (mf_ai (mf_mono opM_fr (fun k hk => by
      simp only [rsM, inR, List.contains_cons, List.contains_nil, Bool.or_eq_false_iff, beq_eq_false_iff_ne, Bool.and_eq_false_iff, decide_eq_false_iff_not] at hk
      simp only [oqM, List.contains_cons, List.contains_nil, Bool.or_eq_false_iff, beq_eq_false_iff_ne]
      (repeat' (first | exact trivial | omega | apply And.intro)))) rfl) rfl) rfl) rfl) rfl) rfl, fun x x0 => ?_, fun k hk x x0 xb => ?_, fun k h1 h2 h3 h4 h5 x => ?_, ⟨?_, ?_, ?_⟩, ⟨?_, ?_, ?_⟩, fun k k1 k2 k3 => ?_, fun k j k0 k1 hj => ?_, ⟨?_, ?_, ?_, ?_⟩, fun k x => ?_⟩
  · have := opM_I (μ := μ) (kd := kd) (fn := b) (to := p) (wn := wn) (th := th) (k := 156) (by omega) (i := x)
    simp (disch := lia) only [rsmM, sF_pi, sF_pl, sF_ai, sF_al, sG_pi, sG_pl, sG_ai, sG_al, sI_pi, sI_pl, sI_al, sI_ai1, sI_ai2, sJ_pi, sJ_pl, sJ_ai, sJ_al1, sJ_al2, Nat.reduceEqDiff, if_true, if_false, ne_eq, not_false_eq_true, ite_true, ite_false, sI_ai b0 x0, sI_ai d0 x0, true_and, false_and, this]
  · have := opM_I (μ := μ) (kd := kd) (fn := b) (to := p) (wn := wn) (th := th) (k := k) (by omega) (i := x)
    simp only [rsmM, sI_pi]
    rw [sI_ai b0 x0, if_neg (fun y => xb y.2), sI_ai b0 x0, if_neg (fun y => xb y.2), sI_ai b0 x0, if_neg (fun y => xb y.2), sI_ai1 (by omega), sI_ai1 (by omega), this]
  · have := opM_I (μ := μ) (kd := kd) (fn := b) (to := p) (wn := wn) (th := th) (k := k) h1 (i := x)
    simp only [rsmM, sI_pi]
    rw [sI_ai1 h4, sI_ai1 h5, sI_ai1 h3, sI_ai1 h2, sI_ai1 h2, this]
  · simp (disch := lia) only [rsmM, sF_pi, sF_pl, sF_ai, sF_al, sG_pi, sG_pl, sG_ai, sG_al, sI_pi, sI_pl, sI_al, sI_ai1, sI_ai2, sJ_pi, sJ_pl, sJ_ai, sJ_al1, sJ_al2, Nat.reduceEqDiff, if_true, if_false, ne_eq, not_false_eq_true, ite_true, ite_false]
  · simp (disch := lia) only [rsmM, sF_pi, sF_pl, sF_ai, sF_al, sG_pi, sG_pl, sG_ai, sG_al, sI_pi, sI_pl, sI_al, sI_ai1, sI_ai2, sJ_pi, sJ_pl, sJ_ai, sJ_al1, sJ_al2, Nat.reduceEqDiff, if_true, if_false, ne_eq, not_false_eq_true, ite_true, ite_false]
  · simp (disch := lia) only [rsmM, sF_pi, sF_pl, sF_ai, sF_al, sG_pi, sG_pl, sG_ai, sG_al, sI_pi, sI_pl, sI_al, sI_ai1, sI_ai2, sJ_pi, sJ_pl, sJ_ai, sJ_al1, sJ_al2, Nat.reduceEqDiff, if_true, if_false, ne_eq, not_false_eq_true, ite_true, ite_false]
  · simp only [rsmM, sF_pi, sF_pl, sF_ai, sF_al, sG_pi, sG_pl, sG_ai, sG_al, sI_pi, sI_pl, sI_al, sI_ai1, sI_ai2, sJ_pi, sJ_pl, sJ_ai, sJ_al1, sJ_al2, Nat.reduceEqDiff, if_true, if_false, ne_eq, not_false_eq_true, ite_true, ite_false]
  · simp only [rsmM, opM, sF_pi, sF_pl, sF_ai, sF_al, sG_pi, sG_pl, sG_ai, sG_al, sI_pi, sI_pl, sI_al, sI_ai1, sI_ai2, sJ_pi, sJ_pl, sJ_ai, sJ_al1, sJ_al2, Nat.reduceEqDiff, if_true, if_false, ne_eq, not_false_eq_true, ite_true, ite_false]
  · simp only [rsmM, opM, sF_pi, sF_pl, sF_ai, sF_al, sG_pi, sG_pl, sG_ai, sG_al, sI_pi, sI_pl, sI_al, sI_ai1, sI_ai2, sJ_pi, sJ_pl, sJ_ai, sJ_al1, sJ_al2, Nat.reduceEqDiff, if_true, if_false, ne_eq, not_false_eq_true, ite_true, ite_false]
  · simp only [rsmM, opM, sF_pi, sF_pl, sF_ai, sF_al, sG_pi, sG_pl, sG_ai, sG_al, sI_pi, sI_pl, sI_al, sI_ai1, sI_ai2, sJ_pi, sJ_pl, sJ_ai, sJ_al1, sJ_al2, Nat.reduceEqDiff, if_true, if_false, ne_eq, not_false_eq_true, ite_true, ite_false, k1, k2, k3]
  · have ne : k ≠ sF μ 154 := by lia
    simp only [mff, rsmM, sI_pi]
    rw [sI_ai1 (by omega), sI_ai1 (by omega), sI_ai1 (by omega), sI_ai1 (by omega), sI_ai1 (by omega)]
    simp only [opM, sI_pi]
    rw [sI_ai c0 k0, if_neg (fun y => ne y.2), sI_ai c0 k0, if_neg (fun y => ne y.2), sI_ai c0 k0, if_neg (fun y => ne y.2), sI_ai c0 k0, if_neg (fun y => ne y.2), sI_ai c0 k0, if_neg (fun y => ne y.2), sI_ai c0 k0, if_neg (fun y => ne y.2), sI_ai c0 k0, if_neg (fun y => ne y.2)]
  · simp (disch := lia) only [mff, rsmM, opM, sF_pi, sF_pl, sF_ai, sF_al, sG_pi, sG_pl, sG_ai, sG_al, sI_pi, sI_pl, sI_al, sI_ai1, sI_ai2, sJ_pi, sJ_pl, sJ_ai, sJ_al1, sJ_al2, Nat.reduceEqDiff, if_true, if_false, ne_eq, not_false_eq_true, ite_true, ite_false, Nat.reduceAdd]
  · simp (disch := lia) only [mff, rsmM, opM, sF_pi, sF_pl, sF_ai, sF_al, sG_pi, sG_pl, sG_ai, sG_al, sI_pi, sI_pl, sI_al, sI_ai1, sI_ai2, sJ_pi, sJ_pl, sJ_ai, sJ_al1, sJ_al2, Nat.reduceEqDiff, if_true, if_false, ne_eq, not_false_eq_true, ite_true, ite_false, Nat.reduceAdd]
  · simp (disch := lia) only [mff, rsmM, opM, sF_pi, sF_pl, sF_ai, sF_al, sG_pi, sG_pl, sG_ai, sG_al, sI_pi, sI_pl, sI_al, sI_ai1, sI_ai2, sJ_pi, sJ_pl, sJ_ai, sJ_al1, sJ_al2, Nat.reduceEqDiff, if_true, if_false, ne_eq, not_false_eq_true, ite_true, ite_false, Nat.reduceAdd]
  · simp (disch := lia) only [mff, rsmM, opM, sF_pi, sF_pl, sF_ai, sF_al, sG_pi, sG_pl, sG_ai, sG_al, sI_pi, sI_pl, sI_al, sI_ai1, sI_ai2, sJ_pi, sJ_pl, sJ_ai, sJ_al1, sJ_al2, Nat.reduceEqDiff, if_true, if_false, ne_eq, not_false_eq_true, ite_true, ite_false, Nat.reduceAdd]
  · simp only [rsmM, opM, sF_pi, sF_pl, sF_ai, sF_al, sG_pi, sG_pl, sG_ai, sG_al, sI_pi, sI_pl, sI_al, sI_ai1, sI_ai2, sJ_pi, sJ_pl, sJ_ai, sJ_al1, sJ_al2, Nat.reduceEqDiff, if_true, if_false, ne_eq, not_false_eq_true, ite_true, ite_false]
/-- a coroutine that is resumed for the first time -/
theorem resN_2 {e : EV} (E : EVok e) {M : Nat} {F : Int32} {m : Nat} (BG : BGst e M F 200 m) {w : WD} {xf : Int32 → List Int32} {c d a b p n wr kd : Int32} {rest : PL2} {ct : CT} {σ μ : mS} (H : CL e w xf c d rest ct σ μ) (hp : p = ct.2.2.2.1) (g399 : sF σ 399 = n) (n0 : 0 ≤ n) (n1 : n ≤ 100) (g190 : sF μ 190 = n) (gv : ∀ k, 0 ≤ k → k < n → VV w (sI σ 397 k) (sJ σ 398 k) (sI μ 188 k) (sJ μ 189 k)) (top : sF μ 143 = p) (hC : (a, b) ∈ wC w) (z : sI σ 323 a = 0) (v2 : xf a = []) (v3 : sI σ 324 a = 6) (v4 : sI μ 159 b = 0) (v5 : VV w 6 (sJ σ 325 a) 5 (Int32.toInt64 (sI μ 158 b))) (v6 : sI μ 166 b = 0) (v7 : sI μ 164 b = 0) (ho : sF σ 358 < 200) (hF : sF σ 396 = F) (hwr : (wr = 0 ∧ kd = 2) ∨ (wr = 1 ∧ kd = 3)) (hm : (200 - (sF σ 358).toInt) ≤ (m : Nat) + 1) {dx dm : Nat} (hx : 5 * m + 20 ≤ dx) (hd : 4 * m + 20 ≤ dm) : G2 e 1000 (M + 1) (bxx6_resume (eN e) (rc_xx6_begin (eN e) dx) σ a wr ct.1 ct.2.1 ct.2.2.1) (mb_goOn (eN e) (rc_call (eN e) dm) μ b kd p ct.2.2.2.2.1 ct.2.2.2.2.2) := by
  have hN := EV_N E
  have bb := CL_b H
  have f406 := CL_0 H
  have cc := ME_c H.1
  have W := H.1.1.1.1
  rw [← hp] at bb
  obtain ⟨s1, ⟨a0, a1, b0, b1⟩, _⟩ := CL_state H (.inl hC)
  have w6 := W.2.2.2.2.2 a b hC
  have now : sF σ 339 = c ∧ sF μ 172 = d := ⟨H.1.2.2.2.2.2.2.1.1, H.1.2.2.2.2.2.2.1.2.1⟩
  have hw01 : wr = 0 ∨ wr = 1 := hwr.imp And.left And.left
  have kd8 : 0 ≤ kd ∧ kd ≤ 8 := by rcases hwr with ⟨_, rfl⟩ | ⟨_, rfl⟩ <;> decide
  have c0 : 0 ≤ sF μ 154 := by lia
  rw [resX_e ho a0 a1 z now.1 cc.2.1 cc.2.2.1 hw01, resM_e b0 b1 (by rw [← s1]; exact z) now.2 cc.2.2.2.1 cc.2.2.2.2.1 c0 (by lia) kd8.1 kd8.2, if_neg (by rw [v3]; decide), if_pos v4]
  obtain ⟨X1, X2, X3, ⟨X4, X5, X6, X7, X8⟩, X9, XA, XB, XC, XD⟩ := rsmX_p (σ := σ) (a := a) (c := c) (wr := wr) (md := ct.1) (rg := ct.2.1) (wt := ct.2.2.1) a0 cc.2.1
  obtain ⟨Y1, Y2, Y3, Y4, ⟨Y5, Y6, Y7⟩, ⟨Y8, Y9, YA⟩, YB, YC, ⟨YD, YE, YF, YG⟩, YH⟩ := rsmM_p (μ := μ) (b := b) (d := d) (kd := kd) (p := p) (wn := ct.2.2.2.2.1) (th := ct.2.2.2.2.2) b0 cc.2.2.2.1 c0
  generalize rsmX a c wr ct.1 ct.2.1 ct.2.2.1 σ = σ1 at *
  generalize rsmM b d kd p ct.2.2.2.2.1 ct.2.2.2.2.2 μ = μ1 at *
  have x324 : ∀ x, 0 ≤ x → sI (md_ai σ1 324 a.toNatClampNeg 0) 324 x = if x = a then 0 else sI σ 324 x := fun x x0 => by
    rw [sI_ai a0 x0, XB 324 (by omega) (by omega)]
    by_cases q : x = a
    · rw [if_pos ⟨rfl, q⟩, if_pos q]
    · rw [if_neg (fun y => q y.2), if_neg q]
  have up : ∀ k, k ≠ 324 → ∀ x, sI (md_ai σ1 324 a.toNatClampNeg 0) k x = sI σ1 k x := fun k hk x => sI_ai1 hk
  have upF : ∀ k, sF (md_ai σ1 324 a.toNatClampNeg 0) k = sF σ1 k := fun k => sF_ai
  have upJ : ∀ k x, sJ (md_ai σ1 324 a.toNatClampNeg 0) k x = sJ σ1 k x := fun k x => sJ_ai
  have fx2 : m_fr rsX σ (md_ai σ1 324 a.toNatClampNeg 0) := mf_ai X1 rfl
  generalize md_ai σ1 324 a.toNatClampNeg 0 = σ2 at *
  have e143 : sF (md_ai μ1 159 b.toNatClampNeg 1) 143 = p := by rw [sF_ai, YB 143 (by omega) (by omega) (by omega)]; exact top
  have pm := push_m (N := eN e) (μ := md_ai μ1 159 b.toNatClampNeg 1) (t := 5) (v := Int32.toInt64 (sI μ 158 b)) (by rw [e143]; exact bb.1) (by rw [e143]; lia) (by decide) (by decide)
  rw [e143] at pm
  rw [pm, g190]
  simp only [bd]
  have E159 : ∀ x, 0 ≤ x → sI (md_ai μ1 159 b.toNatClampNeg 1) 159 x = if x = b then 1 else sI μ1 159 x := fun x x0 => by
    rw [sI_ai b0 x0]
    by_cases q : x = b
    · rw [if_pos ⟨rfl, q⟩, if_pos q]
    · rw [if_neg (fun y => q y.2), if_neg q]
  have Eo : ∀ k, k ≠ 159 → ∀ x, sI (md_ai μ1 159 b.toNatClampNeg 1) k x = sI μ1 k x := fun k hk x => sI_ai1 hk
  have EF : ∀ k, sF (md_ai μ1 159 b.toNatClampNeg 1) k = sF μ1 k := fun k => sF_ai
  have EJ : ∀ k x, sJ (md_ai μ1 159 b.toNatClampNeg 1) k x = sJ μ1 k x := fun k x => sJ_ai
  have fm2 : m_fr rsM μ (md_ai μ1 159 b.toNatClampNeg 1) := mf_ai Y1 rfl
  generalize md_ai μ1 159 b.toNatClampNeg 1 = μ2 at *
  let μ3 := md_pi (md_al (md_ai μ2 141 p.toNatClampNeg 5) 142 p.toNatClampNeg (Int32.toInt64 (sI μ 158 b))) 143 (p + 1)
  have g3 : m_fr cM μ2 μ3 := mf_pi (mf_al (mf_ai mf_rfl rfl) rfl) rfl
  obtain ⟨υ, g1, g2, h3, h4⟩ := go195_lp (N := eN e) (T := rc_call (eN e) dm) (σ := μ3) (n := n) (b := b) (p := p + 1) (by lia) (by lia) n0 (by lia) b0 b1 (fun k k0 k1 => by
    rw [mf_I g3 rfl, Eo 188 (by omega), Y4 188 (by omega) (by omega) (by omega) (by omega) (by omega)]
    have := VV_tag (gv k k0 k1)
    exact ⟨this.2.2.1, by lia⟩) (eN e) 0 (by decide) n0 (big_d hN) μ3 mf_rfl (by simp only [μ3, sF_pi, sF_pl, sF_ai, sF_al, sG_pi, sG_pl, sG_ai, sG_al, sI_pi, sI_pl, sI_al, sI_ai1, sI_ai2, sJ_pi, sJ_pl, sJ_ai, sJ_al1, sJ_al2, Nat.reduceEqDiff, if_true, if_false, ne_eq, not_false_eq_true, ite_true, ite_false]; lia) ⟨fun k k0 k1 => by exfalso; lia, fun i _ _ => ⟨rfl, rfl⟩⟩
  have g23 : m_fr cM μ2 υ := mf_tr g3 g2
  have q0 : ∀ k, k ≠ 141 → k ≠ 142 → k ≠ 143 → cM k = false := fun k k1 k2 k3 => by
    simp only [cM, List.contains_cons, List.contains_nil, Bool.or_eq_false_iff, beq_eq_false_iff_ne]
    exact ⟨k1, k2, k3, trivial⟩
  have fmυ : m_fr rsM μ υ := mf_tr fm2 (mf_mono g23 (fun k hk => by
    simp only [rsM, inR, List.contains_cons, List.contains_nil, Bool.or_eq_false_iff, beq_eq_false_iff_ne, Bool.and_eq_false_iff, decide_eq_false_iff_not] at hk
    exact q0 k (by omega) (by omega) (by omega)))
  have bI : ∀ k, k ≠ 141 → k ≠ 142 → k ≠ 143 → ∀ x, sI υ k x = sI μ2 k x := fun k k1 k2 k3 x => mf_I g23 (q0 k k1 k2 k3)
  have bF : ∀ k, k ≠ 143 → k ≠ 141 → k ≠ 142 → sF υ k = sF μ2 k := fun k k3 k1 k2 => mf_F g23 (q0 k k1 k2 k3)
  have i161 : sI μ3 161 b = p := by rw [mf_I g3 rfl, Eo 161 (by omega), Y6]; exact top
  show G2 e 1000 (M + 1) _ (mm_goOn_195 (eN e) (rc_call (eN e) dm) (eN e) b n 0 μ3)
  rw [g1, i161, bx_ok]
  have pl141 : ∀ i, 0 ≤ i → i < p → sI υ 141 i = sI μ 141 i ∧ sJ υ 142 i = sJ μ 142 i := fun i i0 i1 => by
    have r1 := h4.2 i i0 (.inl (by lia))
    rw [r1.1, r1.2]
    simp only [μ3, sF_pi, sF_pl, sF_ai, sF_al, sG_pi, sG_pl, sG_ai, sG_al, sI_pi, sI_pl, sI_al, sI_ai1, sI_ai2, sJ_pi, sJ_pl, sJ_ai, sJ_al1, sJ_al2, Nat.reduceEqDiff, if_true, if_false, ne_eq, not_false_eq_true, ite_true, ite_false]
    rw [sI_ai bb.1 i0, sJ_al bb.1 i0, if_neg (fun y => by have := y.2; lia), if_neg (fun y => by have := y.2; lia)]
    simp only [sF_pi, sF_pl, sF_ai, sF_al, sG_pi, sG_pl, sG_ai, sG_al, sI_pi, sI_pl, sI_al, sI_ai1, sI_ai2, sJ_pi, sJ_pl, sJ_ai, sJ_al1, sJ_al2, Nat.reduceEqDiff, if_true, if_false, ne_eq, not_false_eq_true, ite_true, ite_false]
    rw [Eo 141 (by omega), EJ, Y4 141 (by omega) (by omega) (by omega) (by omega) (by omega), YH]
    exact ⟨rfl, rfl⟩
  have pp : sI υ 141 p = 5 ∧ sJ υ 142 p = Int32.toInt64 (sI μ 158 b) := by
    have r1 := h4.2 p bb.1 (.inl (by lia))
    refine ⟨r1.1.trans ?_, r1.2.trans ?_⟩
    · simp (disch := lia) only [μ3, sF_pi, sF_pl, sF_ai, sF_al, sG_pi, sG_pl, sG_ai, sG_al, sI_pi, sI_pl, sI_al, sI_ai1, sI_ai2, sJ_pi, sJ_pl, sJ_ai, sJ_al1, sJ_al2, Nat.reduceEqDiff, if_true, if_false, ne_eq, not_false_eq_true, ite_true, ite_false]
    · simp (disch := lia) only [μ3, sF_pi, sF_pl, sF_ai, sF_al, sG_pi, sG_pl, sG_ai, sG_al, sI_pi, sI_pl, sI_al, sI_ai1, sI_ai2, sJ_pi, sJ_pl, sJ_ai, sJ_al1, sJ_al2, Nat.reduceEqDiff, if_true, if_false, ne_eq, not_false_eq_true, ite_true, ite_false]
  have z6 : sF υ 154 = sF μ 154 + 1 := by rw [bF 154 (by omega) (by omega) (by omega), EF]; exact Y9
  have m162 : sI υ 162 b = sF μ 154 + 1 := by rw [bI 162 (by omega) (by omega) (by omega), Eo 162 (by omega)]; exact Y7
  have m161 : sI υ 161 b = p := by rw [bI 161 (by omega) (by omega) (by omega), Eo 161 (by omega), Y6]; exact top
  have rw' : ∀ k j, j < 10 → mff υ k j = mff μ1 k j := fun k j hj => by
    show sI υ (144 + j) k = sI μ1 (144 + j) k
    rw [bI _ (by omega) (by omega) (by omega), Eo _ (by omega)]
  have ME' : ME (eS e) (eK e) (eQ e) w xf a b ((c, d) :: rest) σ2 υ := by
    refine ME_res H.1 H.2.2 hC z hp ho fx2 fmυ (by rw [v6]; decide) (by rw [v6]; decide) (by rw [bI 159 (by omega) (by omega) (by omega), E159 b b0, if_pos rfl]) (fun x x0 => by rw [up 323 (by omega)]; exact X2 x x0) x324 (fun k k0 k1 x x0 xa => by rw [up k (by omega)]; exact X3 k k0 k1 x x0 xa) (by rw [up 327 (by omega)]; exact X4) (kd := kd) (by rw [up 328 (by omega), X5]; exact hwr) (by rw [up 329 (by omega)]; exact X6) (by rw [up 330 (by omega)]; exact X7) (by rw [up 331 (by omega)]; exact X8) (by rw [upF]; exact X9) (by rw [upF]; exact XA) (by rw [z6, v6]; lia) (by rw [bF 155 (by omega) (by omega) (by omega), EF]; exact YA) (fun x x0 => by rw [bI 156 (by omega) (by omega) (by omega), Eo 156 (by omega)]; exact Y2 x x0) (fun k hk x x0 xb => ?_) (by rw [bI 160 (by omega) (by omega) (by omega), Eo 160 (by omega)]; exact Y5) m161 m162 (by rw [bI 164 (by omega) (by omega) (by omega), Eo 164 (by omega), Y4 164 (by omega) (by omega) (by omega) (by omega) (by omega)]; exact v7) (by rw [bI 166 (by omega) (by omega) (by omega), Eo 166 (by omega), Y4 166 (by omega) (by omega) (by omega) (by omega) (by omega)]; exact v6) (by rw [bF 172 (by omega) (by omega) (by omega), EF]; exact Y8) (fun k j k0 k1 hj => by rw [rw' k j hj]; exact YC k j k0 k1 hj) (by rw [rw' _ _ (by omega)]; exact YD) (by rw [rw' _ _ (by omega)]; exact YE) (by rw [rw' _ _ (by omega)]; exact YF) (by rw [rw' _ _ (by omega)]; exact YG) pl141
    rw [bI k (by omega) (by omega) (by omega)]
    by_cases q : k = 159
    · subst q; rw [E159 x x0, if_neg xb]; exact Y3 159 hk x x0 xb
    · rw [Eo k q]; exact Y3 k hk x x0 xb
  have h396 : sF σ2 396 = sF σ 396 := mf_F fx2 (rsX_f (by omega))
  have SV' : SV e w σ2 υ := SV_rs H.2.1 fx2 fmυ (by rw [upF, XD 406 (by omega) (by omega)]; exact f406)
  have CL' : CL e w xf a b ((c, d) :: rest) (0, 0, -1, p, -1, 4) σ2 υ := by
    refine ⟨ME', SV', ?_⟩
    rw [v2, m162, m161]
    have : btO b = 4 := by rw [btO_d, if_neg (by lia)]
    exact ⟨z6, rfl, rfl, this.symm⟩
  have AR' : AR w σ2 υ p n := by
    refine ⟨by rw [upF, XD 399 (by omega) (by omega)]; exact g399, n0, by lia, by rw [h3]; lia, fun k k0 k1 => ?_⟩
    have r1 := h4.1 k k0 k1
    rw [up 397 (by omega), XB 397 (by omega) (by omega), upJ, XC, r1.1, r1.2, mf_I g3 rfl, mf_J g3 rfl, Eo 188 (by omega), EJ, Y4 188 (by omega) (by omega) (by omega) (by omega) (by omega), YH]
    exact gv k k0 k1
  have i8 : (sF σ 358 + 1).toInt = (sF σ 358).toInt + 1 := tI_inc (H.1.2.2.2.2.2.2.2.2.1.2.1) (by lia)
  have := BG w xf a b ((c, d) :: rest) (0, 0, -1, p, -1, 4) σ2 υ p n 6 (sJ σ 325 a) dx dm CL' AR' rfl (by rw [pp.1, pp.2]; exact v5) (by decide) (by rw [h396]; exact hF) (by rw [z6]; lia) (by rw [upF, XA, i8]; omega) hx hd
  rw [v3]
  exact this
