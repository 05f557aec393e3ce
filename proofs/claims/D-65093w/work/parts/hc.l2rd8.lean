/-! LAYER 2: the two readers: one side, with a sign before it -/
def KY (a fa : Int32) (σ σ' : mS) (r : Int32) : Prop := (sF σ 584 ≤ sF σ' 584 ∧ sF σ 590 ≤ sF σ' 590) ∧ (∀ i, a ≤ i → i < sF σ 584 → nEq σ σ' i ∧ (i ≠ r → nX σ' i = nX σ i)) ∧ ∀ f, fa ≤ f → f < sF σ 590 → fEq σ σ' f
theorem KY_X {a fa : Int32} {σ σ' : mS} {r : Int32} (h : KX σ σ' r) (a0 : 0 ≤ a) (f0 : 0 ≤ fa) : KY a fa σ σ' r := ⟨h.1, fun i i0 i1 => h.2.1 i (Int32.le_trans a0 i0) i1, fun f f0' f1 => h.2.2 f (Int32.le_trans f0 f0') f1⟩
theorem KY_rfl {a fa : Int32} {σ : mS} {r : Int32} : KY a fa σ σ r := ⟨⟨Int32.le_refl _, Int32.le_refl _⟩, fun _ _ _ => ⟨nEq_rfl, fun _ => rfl⟩, fun _ _ _ => ⟨rfl, rfl, rfl, rfl, rfl⟩⟩
theorem KY_ai {a fa : Int32} {σ σ' : mS} {r n v : Int32} {j : Nat} (h : KY a fa σ σ' r) (a0 : 0 ≤ a) (n0 : 0 ≤ n) (na : n < a) (hj : j < 584) : KY a fa σ (md_ai σ' j n.toNatClampNeg v) r := by
  obtain ⟨x, b, c⟩ := h
  have q : ∀ i, a ≤ i → ∀ k, sI (md_ai σ' j n.toNatClampNeg v) k i = sI σ' k i := fun i i0 k => by
    rw [sI_ai n0 (Int32.le_trans a0 i0), if_neg (fun (e : k = j ∧ i = n) => Int32.lt_irrefl (Int32.lt_of_lt_of_le na (by rw [← e.2]; exact i0)))]
  refine ⟨x, fun i i0 i1 => ?_, fun f f0 f1 => ?_⟩
  · obtain ⟨⟨x1, x2, x3, x4, x5, x6, x7⟩, x8⟩ := b i i0 i1
    have q' := q i i0
    exact ⟨⟨(q' _).trans x1, (q' _).trans x2, (q' _).trans x3, (q' _).trans x4, (q' _).trans x5, (q' _).trans x6, (q' _).trans x7⟩, fun e => (q' _).trans (x8 e)⟩
  · obtain ⟨x1, x2, x3, x4, x5⟩ := c f f0 f1
    refine ⟨?_, ?_, ?_, ?_, ?_⟩
    · rw [sI_ai1 (by omega)]; exact x1
    · rw [sI_ai1 (by omega)]; exact x2
    · rw [sI_ai1 (by omega)]; exact x3
    · rw [sI_ai1 (by omega)]; exact x4
    · rw [sI_ai1 (by omega)]; exact x5
theorem KY_pi {a fa : Int32} {σ σ' : mS} {r v : Int32} {j : Nat} (h : KY a fa σ σ' r) (h1 : j ≠ 584) (h2 : j ≠ 590) : KY a fa σ (md_pi σ' j v) r := by
  obtain ⟨⟨a1, a2⟩, b, c⟩ := h
  exact ⟨⟨by rw [sF_pi, if_neg (fun e => h1 e.symm)]; exact a1, by rw [sF_pi, if_neg (fun e => h2 e.symm)]; exact a2⟩, b, c⟩
theorem KY_tr {a fa : Int32} {σ σ1 σ2 : mS} {r r' : Int32} (h : KY a fa σ σ1 r) (g : KX σ1 σ2 r') (a0 : 0 ≤ a) (f0 : 0 ≤ fa) (hr : r' = r ∨ r' < a ∨ sF σ 584 ≤ r') : KY a fa σ σ2 r := by
  obtain ⟨⟨a1, a2⟩, b, c⟩ := h
  obtain ⟨⟨A1, A2⟩, B, C⟩ := g
  refine ⟨⟨Int32.le_trans a1 A1, Int32.le_trans a2 A2⟩, fun i i0 i1 => ?_, fun f f0' f1 => ?_⟩
  · obtain ⟨x1, x8⟩ := b i i0 i1
    obtain ⟨y1, y8⟩ := B i (Int32.le_trans a0 i0) (Int32.lt_of_lt_of_le i1 a1)
    refine ⟨nEq_tr x1 y1, fun q => (y8 (fun e => ?_)).trans (x8 q)⟩
    rcases hr with z | z | z
    · exact q (e.trans z)
    · exact Int32.lt_irrefl (Int32.lt_of_lt_of_le (e ▸ z) i0)
    · exact Int32.lt_irrefl (Int32.lt_of_lt_of_le i1 (e ▸ z))
  · exact fEq_tr (c f f0' f1) (C f (Int32.le_trans f0 f0') (Int32.lt_of_lt_of_le f1 a2))
theorem AG_sb {σ0 σ1 σ2 σ T : mS} {r r' : Int32} (h : AG σ0 σ r T) (a1 : sF σ0 584 ≤ sF σ1 584) (a2 : sF σ0 590 ≤ sF σ1 590) (g : KY (sF σ1 584) (sF σ1 590) σ2 σ r') (hr : r = r' ∨ r < sF σ1 584 ∨ sF σ2 584 ≤ r) : AG σ1 σ2 r' T := by
  obtain ⟨h1, h2⟩ := h
  obtain ⟨⟨b1, b2⟩, c, d⟩ := g
  refine ⟨fun i i0 i1 => ?_, fun f f0 f1 => ?_⟩
  · obtain ⟨⟨x1, x2, x3, x4, x5, x6, x7⟩, x8⟩ := h1 i (Int32.le_trans a1 i0) (Int32.lt_of_lt_of_le i1 b1)
    obtain ⟨⟨y1, y2, y3, y4, y5, y6, y7⟩, y8⟩ := c i i0 i1
    rw [y1] at x1 x3 x4
    refine ⟨⟨x1, x2.trans y2, fun e => (x3 e).trans y3, fun e e2 e3 => (x4 e e2 e3).trans y4, x5.trans y5, x6.trans y6, x7.trans y7⟩, fun ne => ?_⟩
    refine (x8 (fun e => ?_)).trans (y8 ne)
    rcases hr with q | q | q
    · exact ne (e.trans q)
    · exact Int32.lt_irrefl (Int32.lt_of_lt_of_le (e ▸ q) i0)
    · exact Int32.lt_irrefl (Int32.lt_of_lt_of_le i1 (e ▸ q))
  · exact fEq_tr (d f f0 f1) (h2 f (Int32.le_trans a2 f0) (Int32.lt_of_lt_of_le f1 b2))
theorem MI_psh {A : Nat → Int} {n b : Int} {o : Nat} {μ : mS} {y s l j : Int32} (h : MI A n b o μ) (h1 : tF μ 133 < 2048) : MI A n b o (pshS (md_pi μ 69 y) s l j) := by
  have h0 : 0 ≤ tF μ 133 := h.2.2.2.2.2.2.2.2.1
  have i : (sF μ 133 + 1).toInt = tF μ 133 + 1 := tI_up h0 (by unfold tF at h1; omega)
  have f : m_fr (fun k => [69, 130, 131, 132].contains k) μ (md_ai (md_ai (md_ai (md_pi μ 69 y) 130 (sF (md_pi μ 69 y) 133).toNatClampNeg s) 131 (sF (md_pi μ 69 y) 133).toNatClampNeg l) 132 (sF (md_pi μ 69 y) 133).toNatClampNeg j) := mf_ai (mf_ai (mf_ai (mf_pi mf_rfl rfl) rfl) rfl) rfl
  exact MI_133 (MI_fr h f (MIp_of rfl) (Int.le_refl _) h.1.2 (Int.le_refl _) (by show tF μ 75 ≤ _; omega)) (by show 0 ≤ (sF μ 133 + 1).toInt; omega)
def fRd (k : Nat) : Bool := [70, 71, 72, 73, 74, 75, 86, 125, 126, 127, 128, 133, 69].contains k
theorem rd_O {σ σ' : mS} (f : m_fr fOp σ σ') : m_fr fRd σ σ' := fr_of f (fin_mem rfl)
theorem pm_R {σ σ' : mS} (f : m_fr fRd σ σ') : m_fr fPM σ σ' := pm_of f (fin_mem rfl)
def fPs (k : Nat) : Bool := [69, 130, 131, 132, 133, 58, 59, 60, 61, 62, 63, 64, 65, 66].contains k
theorem ps_S {μ : mS} {y s l j : Int32} : m_fr fPs μ (pshS (md_pi μ 69 y) s l j) := mf_tr (mf_pi mf_rfl rfl) (fr_of pshS_fr (fin_mem rfl))
theorem ps_T {σ σ' : mS} (f : m_fr fTm σ σ') : m_fr fPs σ σ' := fr_of f (fin_mem rfl)
theorem sl_P {σ σ' : mS} (f : m_fr fPs σ σ') : m_fr slP σ σ' := fr_of f (fin_mem rfl)
theorem pm_P {σ σ' : mS} (f : m_fr fPs σ σ') : m_fr fPM σ σ' := pm_of f (fin_mem rfl)
theorem ls_P : ∀ k, [85, 106, 138, 140, 129, 67, 97, 96, 100, 102, 103, 137, 139, 87].contains k = true → fPs k = false := fun k hk => by
  have := fin_mem (Q := fun k => !fPs k) (l := [85, 106, 138, 140, 129, 67, 97, 96, 100, 102, 103, 137, 139, 87]) rfl k hk
  simpa using this
theorem ls_R : ∀ k, [85, 106, 138, 140, 129, 67, 97, 96, 100, 102, 103, 137, 139, 87, 130, 131, 132].contains k = true → fRd k = false := fun k hk => by
  have := fin_mem (Q := fun k => !fRd k) (l := [85, 106, 138, 140, 129, 67, 97, 96, 100, 102, 103, 137, 139, 87, 130, 131, 132]) rfl k hk
  simpa using this
/-- a sign is laid down and the next token read, on both sides (the system has its sign's node) -/
theorem psh_2 {N : Nat} (hN : BIG ≤ N) {n p e : Int32} {t : Int32 → Int32} {A : Nat → Int} {w : WD} {o : Nat} {c : Int} {σ μ : mS} {y s l j : Int32} (h : PSw n t A w p e o c σ μ) (k0 : ¬ sF σ 707 = 0) (h1 : tF μ 133 < 2048) (hc : c ≤ 690) : ∃ σ' μ' p' e', xx11_next N σ = some σ' ∧ mm_next N (pshS (md_pi μ 69 y) s l j) = some μ' ∧ PSw n t A w p' e' o (c - 20) σ' μ' ∧ p.toInt + 1 ≤ p'.toInt ∧ m_fr fTx σ σ' ∧ m_fr fPs μ μ' ∧ (tF μ' 133 = tF μ 133 + 1 ∧ sF μ' 133 = sF μ 133 + 1 ∧ sF μ' 69 = y) ∧ (sI μ' 130 (sF μ 133) = s ∧ sI μ' 131 (sF μ 133) = l ∧ sI μ' 132 (sF μ 133) = j) ∧ ∀ k, 0 ≤ k → k < sF μ 133 → sI μ' 130 k = sI μ 130 k ∧ sI μ' 131 k = sI μ 131 k ∧ sI μ' 132 k = sI μ 132 k := by
  have h0 : 0 ≤ tF μ 133 := h.2.2.2.2.1.2.2.2.2.2.2.2.2.1
  have i : (sF μ 133 + 1).toInt = tF μ 133 + 1 := tI_up h0 (by unfold tF at h1; omega)
  have at' := psh_at (μ := md_pi μ 69 y) (s := s) (l := l) (j := j) (tI_le.mpr h0)
  have hw : PSw n t A w p e o c σ (pshS (md_pi μ 69 y) s l j) := PSw_fr h (P := fun _ => false) mf_rfl (Q := fun k => [69, 130, 131, 132, 133].contains k) (mf_tr (mf_pi mf_rfl rfl) (fr_of pshS_fr (fin_mem rfl))) (fun _ _ => rfl) (fun k hk => by
    simp only [List.contains_cons, List.contains_nil, Bool.or_eq_false_iff, beq_eq_false_iff_ne]
    (repeat' (first | exact trivial | omega | apply And.intro))) h.2.2.2.2.2 h.2.2.2.1 (MI_psh h.2.2.2.2.1 h1)
  obtain ⟨σ', μ', p', e', r1, r2, r3, r4, r5, _, f, g⟩ := nxw hN hw k0 (c' := c - 20) (.inr (by omega)) (by omega)
  have e1 : sF μ' 133 = sF μ 133 + 1 := by rw [mf_F g rfl]; rfl
  refine ⟨σ', μ', p', e', r1, r2, r3, r4, f, mf_tr ps_S (ps_T g), ⟨by unfold tF; rw [e1]; exact i, e1, by rw [mf_F g rfl]; rfl⟩, ⟨?_, ?_, ?_⟩, fun k k0 k1 => ?_⟩
  · rw [mf_I g rfl]; exact at'.1
  · rw [mf_I g rfl]; exact at'.2.1
  · rw [mf_I g rfl]; exact at'.2.2.1
  · rw [mf_I g rfl, mf_I g rfl, mf_I g rfl]; exact at'.2.2.2 k k0 k1
