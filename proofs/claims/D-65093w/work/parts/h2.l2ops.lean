/-! LAYER 2: the reference's acts: single steps of the compiler -/
def tF (σ : mS) (k : Nat) : Int := (sF σ k).toInt
theorem tI_up {a : Int32} (h0 : 0 ≤ a.toInt) (h1 : a.toInt < 1000000) : (a + 1).toInt = a.toInt + 1 := tI_inc (by rw [tI_le]; exact h0) (by rw [tI_lt]; exact h1)
/-- there is room for k acts more -/
def RO (k : Int) (σ : mS) : Prop := (0 ≤ tF σ 75 ∧ tF σ 75 + k ≤ 159990) ∧ 0 ≤ tF σ 85 ∧ tF σ 85 ≤ 46
def fOp (k : Nat) : Bool := [70, 71, 72, 73, 74, 75, 86, 125, 126, 127, 128].contains k
def OPo (k : Int) (σ : mS) (x : Option mS) : Prop := ∃ σ', x = some σ' ∧ m_fr fOp σ σ' ∧ tF σ 75 ≤ tF σ' 75 ∧ tF σ' 75 ≤ tF σ 75 + k
def emS (σ : mS) (a b c d l : Int32) : mS := md_ai (md_ai (md_ai (md_ai (md_ai (md_pi σ 75 (sF σ 75 + 1)) 70 (sF σ 75).toNatClampNeg (vp_nar .byte (Int32.toInt8 a).toInt32)) 71 (sF σ 75).toNatClampNeg b) 72 (sF σ 75).toNatClampNeg c) 73 (sF σ 75).toNatClampNeg d) 74 (sF σ 75).toNatClampNeg (vp_nar .short (Int32.toInt16 l).toInt32)
theorem RO_75 {k : Int} {σ : mS} (h : RO k σ) (k0 : 1 ≤ k) : inB (sF σ 75) 160000 = true := tI_in h.1.1 (by have := h.1.2; unfold tF at this; omega)
theorem RO_85 {k : Int} {σ : mS} (h : RO k σ) : inB (sF σ 85) 48 = true := tI_in h.2.1 (by have := h.2.2; unfold tF at this; omega)
theorem emit_e {N : Nat} {σ : mS} {a b c d l : Int32} (h : inB (sF σ 75) 160000 = true) : mm_emit N σ a b c d l = some (sF σ 75, emS σ a b c d l) := by
  rw [mm_emit]
  simp only [lt, sF_fold]
  rw [gd_of h, gd_of h, gd_of h, gd_of h, gd_of h]
  rfl
theorem emS_fr {σ : mS} {a b c d l : Int32} : m_fr fOp σ (emS σ a b c d l) := mf_ai (mf_ai (mf_ai (mf_ai (mf_ai (mf_pi mf_rfl rfl) rfl) rfl) rfl) rfl) rfl
theorem emS_75 {σ : mS} {a b c d l : Int32} : sF (emS σ a b c d l) 75 = sF σ 75 + 1 := rfl
theorem RO_em {k : Int} {σ : mS} {a b c d l : Int32} (h : RO (k + 1) σ) (k0 : 0 ≤ k) : RO k (emS σ a b c d l) ∧ tF (emS σ a b c d l) 75 = tF σ 75 + 1 := by
  obtain ⟨⟨h1, h2⟩, h3⟩ := h
  have e : tF (emS σ a b c d l) 75 = tF σ 75 + 1 := tI_up h1 (by unfold tF at h2; omega)
  exact ⟨⟨⟨by omega, by omega⟩, h3⟩, e⟩
theorem RO_fr {k : Int} {σ σ' : mS} (h : RO k σ) (f : m_fr fOp σ σ') (e1 : tF σ 75 ≤ tF σ' 75) (j : Int) (e2 : tF σ' 75 + j ≤ tF σ 75 + k) : RO j σ' := by
  obtain ⟨⟨h1, h2⟩, h3⟩ := h
  have e : tF σ' 85 = tF σ 85 := by unfold tF; rw [mf_F f rfl]
  exact ⟨⟨by omega, by omega⟩, by rw [e]; exact h3⟩
theorem OP_s {k : Int} {σ σ' : mS} (f : m_fr fOp σ σ') (e1 : tF σ 75 ≤ tF σ' 75) (e2 : tF σ' 75 ≤ tF σ 75 + k) : OPo k σ (some σ') := ⟨σ', rfl, f, e1, e2⟩
theorem OP_tr {j k : Int} {σ σ' : mS} {x : Option mS} (f : m_fr fOp σ σ') (e1 : tF σ 75 ≤ tF σ' 75) (e2 : tF σ' 75 ≤ tF σ 75 + j) (h : OPo k σ' x) : OPo (j + k) σ x := by
  obtain ⟨τ, e, g, a, b⟩ := h
  exact ⟨τ, e, mf_tr f g, by omega, by omega⟩
/-- an act, then more -/
theorem emit_b {N : Nat} {k : Int} {σ : mS} {a b c d l : Int32} {f : Int32 × mS → Option mS} (h : RO (k + 1) σ) (k0 : 0 ≤ k) (hf : RO k (emS σ a b c d l) → OPo k (emS σ a b c d l) (f (sF σ 75, emS σ a b c d l))) : OPo (1 + k) σ (bd (mm_emit N σ a b c d l) f) := by
  have e := RO_em (a := a) (b := b) (c := c) (d := d) (l := l) h k0
  rw [emit_e (RO_75 h (by omega))]
  exact OP_tr emS_fr (by omega) (by omega) (hf e.1)
theorem OP_bd {j k : Int} {σ : mS} {x : Option mS} {f : mS → Option mS} (h : RO (j + k) σ) (hx : OPo j σ x) (hf : ∀ τ, m_fr fOp σ τ → RO k τ → OPo k τ (f τ)) : OPo (j + k) σ (bd x f) := by
  obtain ⟨τ, e, g, a, b⟩ := hx
  rw [e]
  exact OP_tr g a b (hf τ g (RO_fr h g a k (by omega)))
theorem OP_up {j k : Int} {σ : mS} {x : Option mS} (h : OPo j σ x) (jk : j ≤ k) : OPo k σ x := by
  obtain ⟨τ, e, g, a, b⟩ := h
  exact ⟨τ, e, g, a, by omega⟩
theorem hi_o {N : Nat} {j : Int} {σ : mS} {k : Int32} (h : RO j σ) : OPo 0 σ (mm_higher N σ k) := by
  have g := RO_85 h
  rw [mm_higher]
  simp only [lt, sF_fold]
  rw [gd_of g, gd_of g]
  exact OP_s (mf_ai mf_rfl rfl) (Int.le_refl _) (by show tF σ 75 ≤ _; omega)
theorem em_o {N : Nat} {σ : mS} {a b c d l : Int32} (h : RO 1 σ) : OPo 1 σ (em N a b c d l σ) := emit_b (k := 0) h (by omega) (fun _ => OP_s mf_rfl (Int.le_refl _) (Int.le_of_eq (Int.add_zero _).symm))
theorem emh_o {N : Nat} {σ : mS} {a b c l k : Int32} (h : RO 1 σ) : OPo 1 σ (emh N a b c l k σ) := emit_b (k := 0) h (by omega) (fun q => hi_o q)
theorem RO_pi {k : Int} {σ : mS} {x : Int32} {j : Nat} (h : RO k σ) (hj : fOp j = true) (h75 : j ≠ 75) : RO k (md_pi σ j x) := by
  refine RO_fr h (mf_pi mf_rfl hj) ?_ k ?_
  · unfold tF; rw [sF_pi, if_neg (fun e => h75 e.symm)]; exact Int.le_refl _
  · unfold tF; rw [sF_pi, if_neg (fun e => h75 e.symm)]; exact Int.le_refl _
theorem OP_pi {k : Int} {σ : mS} {x : Int32} {j : Nat} {y : Option mS} (hj : fOp j = true) (h75 : j ≠ 75) (h : OPo k (md_pi σ j x) y) : OPo k σ y := by
  have e : tF (md_pi σ j x) 75 = tF σ 75 := by unfold tF; rw [sF_pi, if_neg (fun e => h75 e.symm)]
  have := OP_tr (j := 0) (mf_pi mf_rfl hj) (by omega) (by omega) h
  rwa [Int.zero_add] at this
theorem OP_ai {k : Int} {σ : mS} {x : Int32} {i j : Nat} {y : Option mS} (hj : fOp j = true) (h : OPo k (md_ai σ j i x) y) : OPo k σ y := by
  have := OP_tr (σ := σ) (j := 0) (mf_ai mf_rfl hj) (Int.le_refl _) (by show tF σ 75 ≤ _; omega) h
  rwa [Int.zero_add] at this
theorem RO_ai {k : Int} {σ : mS} {x : Int32} {i j : Nat} (h : RO k σ) (hj : fOp j = true) : RO k (md_ai σ j i x) := RO_fr (σ := σ) h (mf_ai mf_rfl hj) (Int.le_refl _) k (Int.le_refl _)
theorem OP_k0 {k : Int} {σ : mS} (h : 0 ≤ k) : OPo k σ (k0 σ) := OP_pi (x := 0) (j := 125) rfl (by decide) (OP_s mf_rfl (Int.le_refl _) (by omega))
theorem lf_o {N : Nat} {σ : mS} {a b c : Int32} (h : RO 1 σ) : OPo 1 σ (lf N a b c σ) := OP_pi (x := 0) (j := 125) rfl (by decide) (emit_b (k := 0) (RO_pi h rfl (by decide)) (by omega) (fun q => hi_o q))
theorem string_o {N : Nat} {σ : mS} {s : Int32} (h : RO 1 σ) : OPo 1 σ (mm_string N σ s) := by
  rw [mm_string]
  refine emit_b (k := 0) h (by omega) (fun q => OP_bd (j := 0) (k := 0) q (hi_o q) (fun τ _ q2 => ?_))
  exact OP_k0 (Int.le_refl _)
theorem value_o {N : Nat} {σ : mS} (h : RO 1 σ) : OPo 1 σ (mm_value N σ) := by
  have t : ∀ τ : mS, OPo 0 τ (mm_value_137 N τ) := fun τ => OP_k0 (Int.le_refl _)
  have u : ∀ (a b c d l k : Int32), OPo 1 σ (bd (mm_emit N σ a b c d l) (fun z3 => bd (mm_higher N z3.2 k) (fun z4 => mm_value_137 N z4))) := fun a b c d l k => emit_b (k := 0) h (by omega) (fun q => OP_bd (j := 0) (k := 0) q (hi_o q) (fun τ _ _ => t τ))
  rw [mm_value]
  simp only [lt]
  split
  · split
    · exact u _ _ _ _ _ _
    · split
      · exact u _ _ _ _ _ _
      · split
        · exact u _ _ _ _ _ _
        · split
          · exact u _ _ _ _ _ _
          · exact OP_up (t σ) (by omega)
  · exact OP_s mf_rfl (Int.le_refl _) (by omega)
/-- what value leaves: nothing but a value on the pile -/
theorem value_k {N : Nat} {σ σ' : mS} (h0 : sF σ 67 = 0) (e : mm_value N σ = some σ') : sF σ' 125 = 0 := by
  have t : ∀ τ : mS, mm_value_137 N τ = some σ' → sF σ' 125 = 0 := fun τ e => by
    have e : some (md_pi τ 125 0) = some σ' := e
    cases e; rfl
  have u : ∀ (a b c d l k : Int32), bd (mm_emit N σ a b c d l) (fun z3 => bd (mm_higher N z3.2 k) (fun z4 => mm_value_137 N z4)) = some σ' → sF σ' 125 = 0 := fun a b c d l k e => by
    cases h1 : mm_emit N σ a b c d l with
    | none => rw [h1] at e; exact nomatch e
    | some z =>
      rw [h1] at e
      simp only [bd] at e
      cases h2 : mm_higher N z.2 k with
      | none => rw [h2] at e; exact nomatch e
      | some z2 => rw [h2] at e; exact t _ e
  rw [mm_value, show σ.1 67 = 0 from h0, if_pos rfl] at e
  simp only [lt] at e
  split at e
  · exact u _ _ _ _ _ _ e
  · split at e
    · exact u _ _ _ _ _ _ e
    · split at e
      · exact u _ _ _ _ _ _ e
      · split at e
        · exact u _ _ _ _ _ _ e
        · exact t _ e
theorem mto_o {N : Nat} {σ : mS} {s l : Int32} (h : RO 3 σ) : OPo 3 σ (mto N s l σ) := by
  refine OP_bd (j := 1) (k := 2) h (string_o (RO_fr h mf_rfl (Int.le_refl _) 1 (by omega))) (fun τ _ q => ?_)
  refine emit_b (k := 1) q (by omega) (fun q2 => ?_)
  exact emit_b (k := 0) q2 (by omega) (fun q3 => hi_o q3)
theorem fst_o {j : Int} {σ : mS} {i : Int32} (h : RO j σ) (i0 : 0 ≤ i.toInt) (i1 : i.toInt < 160000) : OPo 0 σ (fst i σ) := by
  rw [fst, gd_of (tI_in i0 (by omega))]
  exact OP_ai (k := 0) (x := sF σ 75) (i := i.toNatClampNeg) (j := 71) rfl (OP_s mf_rfl (Int.le_refl _) (by omega))
theorem clo_o {N : Nat} {σ : mS} {c l a : Int32} (h : RO 1 σ) : OPo 1 σ (clo N c l a σ) := by
  rw [clo, gd_of (RO_85 h)]
  refine OP_ai (j := 86) rfl (OP_pi (j := 125) rfl (by decide) (emit_b (k := 0) (RO_pi (RO_ai h rfl) rfl (by decide)) (by omega) (fun q => ?_)))
  exact OP_pi (j := 126) rfl (by decide) (OP_s mf_rfl (Int.le_refl _) (Int.le_of_eq (Int.add_zero _).symm))
/-- what a call or what gives many values is: its act is there -/
def KQ (σ : mS) : Prop := isMn σ → 0 ≤ tF σ 126 ∧ tF σ 126 < tF σ 75
theorem give_o {N : Nat} {j : Int} {σ : mS} {k : Int32} (h : RO j σ) (j0 : 0 ≤ j) (m : isMn σ) (q : KQ σ) : OPo 0 σ (mm_give N σ k) := by
  obtain ⟨q0, q1⟩ := q m
  have g : inB (sF σ 126) 160000 = true := tI_in q0 (by have := h.1.2; unfold tF at this q1; omega)
  have t : ∀ (τ : mS) (y : Int32), RO j τ → OPo 0 τ (mm_give_43 N y τ) := fun τ y r => by
    rw [mm_give_43]
    exact OP_bd (j := 0) (k := 0) (RO_fr r mf_rfl (Int.le_refl _) 0 (by omega)) (hi_o r) (fun υ _ _ => OP_k0 (Int.le_refl _))
  have u : ∀ (τ : mS) (y : Int32), RO j τ → OPo 0 τ (mm_give_31 N y τ) := fun τ y r => by
    rw [mm_give_31]
    split
    · exact t _ _ r
    · exact t _ _ r
  rw [mm_give]
  simp only [sF_fold, lt]
  rw [gd_of g, gd_of g]
  split
  · exact OP_ai rfl (u _ _ (RO_ai h rfl))
  · exact OP_ai rfl (u _ _ (RO_ai h rfl))
theorem give_k {N : Nat} {σ σ' : mS} {k : Int32} (e : mm_give N σ k = some σ') : sF σ' 125 = 0 := by
  have t : ∀ (τ : mS) (y : Int32), mm_give_43 N y τ = some σ' → sF σ' 125 = 0 := fun τ y e => by
    rw [mm_give_43] at e
    cases h2 : mm_higher N τ y with
    | none => rw [h2] at e; exact nomatch e
    | some z2 =>
      rw [h2] at e
      have e : some (md_pi z2 125 0) = some σ' := e
      cases e; rfl
  have u : ∀ (τ : mS) (y : Int32), mm_give_31 N y τ = some σ' → sF σ' 125 = 0 := fun τ y e => by
    rw [mm_give_31] at e
    split at e
    · exact t _ _ e
    · exact t _ _ e
  rw [mm_give] at e
  split at e
  · exact u _ _ (gd_e e)
  · exact u _ _ (gd_e e)
theorem hsb_o {j : Int} {σ : mS} {k : Int32} (h : RO j σ) : OPo 0 σ (hsb k σ) := by
  rw [hsb, gd_of (RO_85 h)]
  exact OP_ai (k := 0) (j := 86) rfl (OP_s mf_rfl (Int.le_refl _) (by omega))
theorem hset_o {j : Int} {σ : mS} {x : Int32} (h : RO j σ) : OPo 0 σ (gd (inB (sF σ 85) 48) (some (md_ai σ 86 (sF σ 85).toNatClampNeg x))) := by
  rw [gd_of (RO_85 h)]
  exact OP_ai (k := 0) (x := x) (i := (sF σ 85).toNatClampNeg) (j := 86) rfl (OP_s mf_rfl (Int.le_refl _) (by omega))
theorem ret_o {N : Nat} {σ : mS} {h a l : Int32} (r : RO 1 σ) : OPo 1 σ (retE N h a l σ) := OP_bd (j := 1) (k := 0) r (em_o r) (fun τ _ q => hset_o q)
theorem store_o {N : Nat} {σ : mS} (h : RO 1 σ) : OPo 1 σ (mm_store N σ) := by
  have u : ∀ (a b c d l k : Int32), OPo 1 σ (bd (mm_emit N σ a b c d l) (fun z3 => bd (mm_higher N z3.2 k) (fun z4 => mm_store_124 N z4))) := fun a b c d l k => emit_b (k := 0) h (by omega) (fun q => OP_bd (j := 0) (k := 0) q (hi_o q) (fun τ _ _ => OP_s mf_rfl (Int.le_refl _) (by omega)))
  rw [mm_store]
  simp only [lt]
  split
  · exact u _ _ _ _ _ _
  · split
    · exact u _ _ _ _ _ _
    · split
      · exact u _ _ _ _ _ _
      · exact u _ _ _ _ _ _
theorem nls_o {N : Nat} : ∀ (k : Nat) (σ : mS), RO k σ → OPo k σ (nls N k σ)
  | 0, σ, _ => OP_s mf_rfl (Int.le_refl _) (by omega)
  | k + 1, σ, h => by
    rw [nls, show ((k + 1 : Nat) : Int) = 1 + (k : Int) from by omega]
    rw [show ((k + 1 : Nat) : Int) = 1 + (k : Int) from by omega] at h
    exact OP_bd (j := 1) (k := k) h (em_o (RO_fr h mf_rfl (Int.le_refl _) 1 (by omega))) (fun τ _ q => nls_o k τ q)
