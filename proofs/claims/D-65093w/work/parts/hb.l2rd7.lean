/-! LAYER 2: the two readers: one side -/
def flX (σ : mS) : mS := md_pi (md_pi (md_pi σ 646 1) 647 (sF σ 708)) 648 (sF σ 709)
def flM (μ : mS) : mS := md_pi (md_pi μ 67 1) 68 (sF μ 61)
theorem flX_fr {σ : mS} : m_fr fFx σ (flX σ) := mf_pi (mf_pi (mf_pi mf_rfl rfl) rfl) rfl
theorem flM_fr {μ : mS} : m_fr fFm μ (flM μ) := mf_pi (mf_pi mf_rfl rfl) rfl
theorem flw {n p e : Int32} {t : Int32 → Int32} {A : Nat → Int} {w : WD} {o : Nat} {c : Int} {σ μ : mS} (h : PS n t A w p e o c σ μ) : FLw n t w 0 (flX σ) (flM μ) := ⟨w, wx_rfl, fail_2 h⟩
theorem enter_0 {N : Nat} {σ : mS} {k : Int32} (h : sF σ 646 = 0) (h4 : sF σ 644 = 40) : xx10_enter N σ k = some (md_pi (flX σ) 644 (sF σ 644 + 1)) := by
  rw [xx10_enter, if_pos (show σ.1 644 = 40 from h4), fail_x h, bd_so, xx10_enter_b13, need_f rfl, bd_so]
  rfl
theorem enter_y {N : Nat} {σ σ' : mS} {k : Int32} (h : sF σ 646 = 0) (h4 : ¬ sF σ 644 = 40) (c : sF σ 707 = k) (e : xx11_next N σ = some σ') : xx10_enter N σ k = some (md_pi σ' 644 (sF σ' 644 + 1)) := by
  rw [xx10_enter, if_neg (show ¬ σ.1 644 = 40 from h4), xx10_enter_b13, need_y h c e, bd_so]
  rfl
theorem open_0 {N : Nat} {μ : mS} (h : sF μ 67 = 0) (h4 : sF μ 69 = 40) : mm_openOne N μ = some (flM μ) := by
  rw [mm_openOne, if_pos (show μ.1 69 = 40 from h4), fail_m h, bd_so]
  rfl
theorem open_y {N : Nat} {μ : mS} (h4 : ¬ sF μ 69 = 40) : mm_openOne N μ = some (md_pi μ 69 (sF μ 69 + 1)) := by
  rw [mm_openOne, if_neg (show ¬ μ.1 69 = 40 from h4)]
  rfl
theorem o40 {o : Nat} {σ μ : mS} (h : OPN (o + 1) σ μ) : ¬ sF σ 644 = 40 ∧ ¬ sF μ 69 = 40 := by
  obtain ⟨a, b, c⟩ := h
  rw [a, b]
  have := (opn_0 c)
  exact ⟨fun q => by have := this.mp q; omega, fun q => by have := this.mp q; omega⟩
theorem o400 {σ μ : mS} (h : OPN 0 σ μ) : sF σ 644 = 40 ∧ sF μ 69 = 40 := by
  obtain ⟨a, b, _⟩ := h
  exact ⟨a, b⟩
/-- what comes of the beginning of an expression -/
def RUx (N : Nat) (n : Int32) (t : Int32 → Int32) (A : Nat → Int) (w : WD) (o : Nat) (c : Int) (p : Int32) (σ μ : mS) (X : Option (Int32 × mS)) (T : ty_expression) (Y : Option mS) (v : Int32) : Prop := ∃ r σ', X = some (r, σ') ∧ m_fr fPX σ σ' ∧ ((∃ μ', Y = some μ' ∧ m_fr fPM μ μ' ∧ FLw n t w (kfo o) σ' μ') ∨ ∃ μ' p' f h, Y = mm_expression_84 N T (mm_expression_7 N T f) h v (bdm (sF μ' 60)) μ' ∧ m_fr fPM μ μ' ∧ (∀ e, GX N n t A w o e c p p' σ μ r σ' μ') ∧ n.toInt - p'.toInt < (f : Int) ∧ tF μ' 133 - v.toInt < (h : Int))
def SCx (N : Nat) (n : Int32) (t : Int32 → Int32) (A : Nat → Int) (o : Nat) : Prop := ∀ (dx dm : Nat) (w : WD) (p e : Int32) (c : Int) (σ μ : mS), 20 * o + 17 ≤ dx → 14 * o + 7 ≤ dm → PS n t A w p e o c σ μ → c ≤ 400 → tF μ 133 ≤ 12 * (40 - o) + 10 → ∃ r σ' μ', (rc_xx10_arguments N dx).2.2.2.2.2.2.2.2.2.2.2.2.2.1 σ = some (r, σ') ∧ (rc_expression N dm).2.2.2.2.2.2.2.2.2.2.2.2.2.2.2.1 μ = some μ' ∧ m_fr fPX σ σ' ∧ m_fr fPM μ μ' ∧ (FLw n t w (kfo o) σ' μ' ∨ ∃ p', ∀ e, GX N n t A w o e c p p' σ μ r σ' μ')
theorem un_own {k : Int32} (u : isUn k) : own (-1 - kmp k) = uno k ∧ ¬ 0 ≤ -1 - kmp k ∧ ¬ k = 0 := by
  rcases u with u | u | u | u <;> subst u <;> decide
theorem un_x {N : Nat} {T : ty_xx10_arguments} {σ : mS} (h : sF σ 646 = 0) (u : isUn (sF σ 707)) : bxx10_unary N T σ = xx10_unary_b45 N T (sF σ 707) σ := by
  rw [bxx10_unary, if_pos (show σ.1 646 = 0 from h), lt_e, show σ.1 707 = sF σ 707 from rfl]
  by_cases c : sF σ 707 = 64
  · rw [if_pos c]
  rw [if_neg c]
  by_cases c1 : sF σ 707 = 27
  · rw [if_pos c1]
  rw [if_neg c1]
  by_cases c2 : sF σ 707 = 11
  · rw [if_pos c2]
  rw [if_neg c2]
  by_cases c3 : sF σ 707 = 17
  · rw [if_pos c3]
  exfalso
  rcases u with u | u | u | u
  · exact c u
  · exact c1 u
  · exact c2 u
  · exact c3 u
theorem un_xn {N : Nat} {T : ty_xx10_arguments} {σ : mS} (h : sF σ 646 = 0) (u : ¬ isUn (sF σ 707)) : bxx10_unary N T σ = bd (T.2.2.2.2.2.2.2.2.2.2.2.2.2.1 σ) (fun z8 => some (z8.1, z8.2)) := by
  rw [bxx10_unary, if_pos (show σ.1 646 = 0 from h), lt_e, show σ.1 707 = sF σ 707 from rfl, if_neg (fun q => u (.inl q)), if_neg (fun q => u (.inr (.inl q))), if_neg (fun q => u (.inr (.inr (.inl q)))), if_neg (fun q => u (.inr (.inr (.inr q))))]
theorem nk13 : vp_nar .byte (Int32.toInt8 13).toInt32 = 13 := by decide
theorem w10 : wei 10 = 0 := rfl
/-- the system behind the sign -/
theorem un_45 {N : Nat} {T : ty_xx10_arguments} {k r : Int32} {σ σ3 σ5 : mS} (g : inB (sF σ 584) 13000 = true) (e1 : xx10_enter N (md_ai (ndS σ 13) 579 (sF σ 584).toNatClampNeg k) k = some σ3) (e2 : T.2.2.2.2.2.1 σ3 10 = some (r, σ5)) : xx10_unary_b45 N T k σ = some (sF σ 584, md_pi (md_ai σ5 577 (sF σ 584).toNatClampNeg r) 644 (sF σ5 644 - 1)) := by
  rw [xx10_unary_b45, node_e g, bd_so]
  dsimp only
  rw [gd_of g, lt_e, e1, bd_so, e2, bd_so]
  dsimp only
  rw [gd_of g, lt_e, lt_e]
  rfl
theorem px_45 {σ σ5 : mS} {r : Int32} {i : Nat} {x : Int32} (f : m_fr fPX σ σ5) : m_fr fPX σ (md_pi (md_ai σ5 577 i r) 644 x) := mf_pi (mf_ai f rfl) rfl
/-- a sign of one side: a failure -/
theorem un_f {N : Nat} (hN : BIG ≤ N) {n p e : Int32} {t : Int32 → Int32} {A : Nat → Int} {d dm f g : Nat} {w : WD} {c : Int} {σ μ : mS} {v : Int32} (h : PS n t A w p e 0 c σ μ) (hc : c ≤ 400) (u : isUn (sF σ 707)) (hd : 2 ≤ d) : RUx N n t A w 0 c p σ μ (bxx10_unary N (rc_xx10_arguments N d) σ) (rc_expression N dm) (mm_expression_18 N (rc_expression N dm) (mm_expression_7 N (rc_expression N dm) (f + 1)) (g + 1 + 1) v μ) v := by
  have q := PS_584 h
  obtain ⟨x44, m69⟩ := o400 h.2.2.1
  have h1 : PS n t A w p e 0 (c + 3) (md_ai (ndS σ 13) 579 (sF σ 584).toNatClampNeg (sF σ 707)) μ := PS_ai (PS_nd h 13 (by omega)) rfl
  have f1 := FLw_644 (v := sF (md_ai (ndS σ 13) 579 (sF σ 584).toNatClampNeg (sF σ 707)) 644 + 1) (flw h1)
  have g1 := FLw_N f1 (by decide)
  have f2 := FLw_nd f1 (by decide) 0
  obtain ⟨d, rfl⟩ : ∃ d', d = d' + 2 := ⟨d - 2, by omega⟩
  have e2 := fx_e2 (d := d) hN (σ := md_pi (flX (md_ai (ndS σ 13) 579 (sF σ 584).toNatClampNeg (sF σ 707))) 644 (sF (md_ai (ndS σ 13) 579 (sF σ 584).toNatClampNeg (sF σ 707)) 644 + 1)) (l := 10) rfl g1 (by decide)
  have e1 := enter_0 (N := N) (k := sF σ 707) h1.2.1.1 (show sF (md_ai (ndS σ 13) 579 (sF σ 584).toNatClampNeg (sF σ 707)) 644 = 40 from x44)
  refine ⟨_, _, (un_x h.2.1.1 u).trans (un_45 q.2.1 e1 e2), ?_, .inl ⟨flM μ, ?_, pm_F flM_fr, ?_⟩⟩
  · refine px_45 (mf_tr ?_ (px_N ndS_fr))
    exact mf_pi (mf_tr (mf_tr (px_N ndS_fr) (mf_ai mf_rfl rfl)) (px_F flX_fr)) rfl
  · rw [mm_expression_18, if_pos (show μ.1 67 = 0 from h.2.1.2), isU_y (PS_tk h) u, bd_so]
    dsimp only
    rw [if_neg n10, open_0 h.2.1.2 m69, bd_so, hang_f rfl, bd_so]
    exact e18_f hN rfl
  · exact FLw_up (FLw_644 (FLw_ai f2 rfl)) wx_rfl (by unfold kfo; omega)
