/-! LAYER 2: the two readers: nodes, words -/
theorem PS_584 {n p e : Int32} {t : Int32 → Int32} {A : Nat → Int} {w : WD} {o : Nat} {c : Int} {σ μ : mS} (h : PS n t A w p e o c σ μ) : (0 ≤ sF σ 584 ∧ sF σ 584 < 1000000) ∧ inB (sF σ 584) 13000 = true ∧ 0 ≤ sF σ 590 ∧ inB (sF σ 590) 700 = true := by
  have pn := PS_pn h
  obtain ⟨_, _, _, _, ⟨⟨a1, a2⟩, ⟨a3, a4⟩, _⟩, _, h7⟩ := h
  unfold tF at a1 a2 a3 a4
  exact ⟨⟨tI_le.mpr a1, by rw [tI_lt, show (1000000 : Int32).toInt = 1000000 from rfl]; omega⟩, tI_in a1 (by omega), tI_le.mpr a3, tI_in a3 (by omega)⟩
theorem PS_nd {n p e : Int32} {t : Int32 → Int32} {A : Nat → Int} {w : WD} {o : Nat} {c : Int} {σ μ : mS} (h : PS n t A w p e o c σ μ) (k : Int32) (hc : c ≤ 690) : PS n t A w p e o (c + 3) (ndS σ k) μ := by
  have pn := PS_pn h
  have q := PS_584 h
  have i := tI_up (tI_le.mp q.1.1) (tI_lt.mp q.1.2)
  refine PS_fr h ndS_fr (Q := fun _ => false) mf_rfl Tr_P (fun _ _ => rfl) (by omega) ?_ (MI_up h.2.2.2.2.2.1 (by omega) (by omega))
  obtain ⟨_, _, _, _, ⟨⟨a1, a2⟩, ⟨a3, a4⟩, a5, a6⟩, _⟩ := h
  unfold BXr
  have e1 : tF (ndS σ k) 584 = tF σ 584 + 1 := i
  rw [e1]
  refine ⟨⟨by omega, by omega⟩, ⟨a3, ?_⟩, ?_, ?_⟩
  · show 40 * tF σ 590 ≤ _; omega
  · show 5 * (tF σ 134 - A 134) ≤ _; omega
  · show tF σ 133 - A 133 ≤ _; omega
theorem PS_ai {n p e : Int32} {t : Int32 → Int32} {A : Nat → Int} {w : WD} {o : Nat} {c : Int} {σ μ : mS} (h : PS n t A w p e o c σ μ) {j i : Nat} {v : Int32} (hj : fTr j = true) : PS n t A w p e o c (md_ai σ j i v) μ := PS_fr h (mf_ai (P := fTr) mf_rfl hj) (Q := fun _ => false) mf_rfl Tr_P (fun _ _ => rfl) h.2.2.2.2.2.2 h.2.2.2.2.1 h.2.2.2.2.2.1
def fXW (k : Nat) : Bool := [576, 577, 578, 579, 580, 581, 582, 583, 584, 707, 708, 709, 710, 711, 712, 713, 714, 715, 128, 129, 130, 132, 133, 134, 135, 646, 647, 648].contains k
def fWm2 (k : Nat) : Bool := [58, 59, 60, 61, 62, 63, 64, 65, 66, 2, 3, 4, 5, 6, 7, 8, 9].contains k
theorem fr_of {P Q : Nat → Bool} {σ σ' : mS} (f : m_fr P σ σ') (h : ∀ k, P k = true → Q k = true) : m_fr Q σ σ' := mf_mono f (fun k hk => by
  cases hp : P k with
  | false => rfl
  | true => rw [h k hp] at hk; exact absurd hk (by decide))
theorem fx_N {σ : mS} {k : Int32} : m_fr fXW σ (ndS σ k) := mf_ai (mf_ai (mf_ai (mf_ai (mf_ai (mf_ai (mf_ai (mf_ai (mf_pi mf_rfl rfl) rfl) rfl) rfl) rfl) rfl) rfl) rfl) rfl
theorem fx_X {σ σ' : mS} (f : m_fr fTXx σ σ') : m_fr fXW σ σ' := fr_of f (fin_mem rfl)
theorem fx_T {σ σ' : mS} (f : m_fr fTx σ σ') : m_fr fXW σ σ' := fr_of f (fin_mem rfl)
theorem fx_F {σ σ' : mS} (f : m_fr fFx σ σ') : m_fr fXW σ σ' := fr_of f (fin_mem rfl)
theorem fm_X {σ σ' : mS} (f : m_fr fTXm σ σ') : m_fr fWm2 σ σ' := fr_of f (fin_mem rfl)
theorem fm_T {σ σ' : mS} (f : m_fr fTm σ σ') : m_fr fWm2 σ σ' := fr_of f (fin_mem rfl)
theorem px_W {σ σ' : mS} (f : m_fr fXW σ σ') : m_fr fPX σ σ' := px_of f (fin_mem rfl)
theorem pm_W {σ σ' : mS} (f : m_fr fWm2 σ σ') : m_fr fPM σ σ' := pm_of f (fin_mem rfl)
theorem sl_W {σ σ' : mS} (f : m_fr fWm2 σ σ') : m_fr slP σ σ' := fr_of f (fin_mem rfl)
theorem KLp_W : KLp fWm2 := KLp_of rfl
theorem X_KP : ∀ k, 576 ≤ k → k ≤ 590 → fTXx k = false := fun k k0 k1 => by
  simp only [fTXx, List.contains_cons, List.contains_nil, Bool.or_eq_false_iff, beq_eq_false_iff_ne]
  (repeat' (first | exact trivial | omega | apply And.intro))
theorem T_KP : ∀ k, 576 ≤ k → k ≤ 590 → fTx k = false := fun k k0 k1 => by
  simp only [fTx, List.contains_cons, List.contains_nil, Bool.or_eq_false_iff, beq_eq_false_iff_ne]
  (repeat' (first | exact trivial | omega | apply And.intro))
theorem F_KP : ∀ k, 576 ≤ k → k ≤ 590 → fFx k = false := fun k k0 k1 => by
  simp only [fFx, List.contains_cons, List.contains_nil, Bool.or_eq_false_iff, beq_eq_false_iff_ne]
  (repeat' (first | exact trivial | omega | apply And.intro))
theorem nk7 : vp_nar .byte (Int32.toInt8 7).toInt32 = 7 := by decide
theorem nk4 : vp_nar .byte (Int32.toInt8 4).toInt32 = 4 := by decide
/-- a word that is there -/
theorem word_y {N : Nat} (hN : BIG ≤ N) {n p e : Int32} {t : Int32 → Int32} {A : Nat → Int} {w : WD} {o : Nat} {c : Int} {σ μ : mS} (h : PS n t A w p e o c σ μ) (hk : sF σ 707 = 2) (hc : c ≤ 590) : ∃ hx s σ' μ' p' e', xx10_word N σ = some (sF σ 584, σ') ∧ mm_word N μ = some (s, μ') ∧ PS n t A (wAddX w hx s) p' e' o (c - 11) σ' μ' ∧ ND σ' (sF σ 584) 7 hx (-1) (-1) (-1) (LN t p) p (-1) ∧ (∀ r, KX σ σ' r) ∧ (sF σ' 584 = sF σ 584 + 1 ∧ sF σ' 590 = sF σ 590) ∧ p.toInt + 1 ≤ p'.toInt ∧ m_fr fXW σ σ' ∧ m_fr fWm2 μ μ' := by
  have q := PS_584 h
  have h1 := PS_nd h 7 (by omega)
  obtain ⟨hx, s, τ, τm, e1, e2, h2, pe, f1, g1⟩ := wtx_2 hN h1 hk (by omega)
  have h3 : PS n t A (wAddX w hx s) p e o (c + 3 + 5 + (e.toInt - p.toInt)) (md_ai τ 577 (sF σ 584).toNatClampNeg hx) τm := PS_ai h2 rfl
  have k7 : sF (md_ai τ 577 (sF σ 584).toNatClampNeg hx) 707 = 2 := by
    rw [sF_ai, mf_F f1 rfl]; exact hk
  obtain ⟨σ', μ', p', e', r1, r2, r3, r4, r5, _, f2, g2⟩ := nxp hN h3 (by rw [k7]; decide) (c' := c - 11) (.inl (by omega)) (by omega)
  have i0 := (KX_nd (σ := σ) (k := 7) (r := -1) q.1.1 q.1.2).2
  have kx : ∀ r, KX σ (md_ai τ 577 (sF σ 584).toNatClampNeg hx) r := fun r => KX_ai (KX_tr (KX_nd q.1.1 q.1.2).1 (KX_fr f1 X_KP)) q.1.1 (Int32.le_refl _) (by omega)
  refine ⟨hx, s, σ', μ', p', e', ?_, ?_, r3, ?_, fun r => KX_tr (kx r) (KX_fr f2 T_KP), ⟨?_, ?_⟩, r4, mf_tr (mf_ai (mf_tr fx_N (fx_X f1)) rfl) (fx_T f2), mf_tr (fm_X g1) (fm_T g2)⟩
  · rw [xx10_word, node_e q.2.1]
    simp only [bd]
    rw [is_y h1.2.1.1 hk]
    simp only
    rw [if_neg (by decide), show (ndS σ 7).1 712 = sF (ndS σ 7) 712 from rfl, e1]
    simp only
    rw [gd_of q.2.1]
    simp only [lt]
    rw [r1]
    rfl
  · rw [mm_word]
    simp only [sF_fold]
    rw [if_pos (tk_y (PS_tk h) hk (by decide)), e2]
    simp only [bd]
    rw [r2]
  · have d := ND_new (σ := σ) (k := 7)
    rw [nk7] at d
    have l1 : sF σ 709 = LN t p := h.1.2.2.2.1.1
    have l2 : sF σ 708 = p := h.1.2.2.1.1
    rw [l1, l2] at d
    exact ND_fr (ND_A (ND_fr d f1 X_KP)) f2 T_KP
  · rw [mf_F f2 rfl, sF_ai, mf_F f1 rfl]; exact i0.1
  · rw [mf_F f2 rfl, sF_ai, mf_F f1 rfl]; rfl
/-- no word -/
theorem word_n {N : Nat} {n p e : Int32} {t : Int32 → Int32} {A : Nat → Int} {w : WD} {o : Nat} {c : Int} {σ μ : mS} (h : PS n t A w p e o c σ μ) (hk : ¬ sF σ 707 = 2) (hc : c ≤ 590) : ∃ σ' μ', xx10_word N σ = some (sF σ 584, σ') ∧ mm_word N μ = some (0, μ') ∧ FLw n t w 0 σ' μ' ∧ m_fr fXW σ σ' ∧ m_fr fFm μ μ' := by
  have q := PS_584 h
  have h1 := PS_nd h 7 (by omega)
  have k7 : ¬ sF (ndS σ 7) 707 = 2 := hk
  refine ⟨_, _, ?_, ?_, ⟨w, wx_rfl, fail_2 h1⟩, mf_tr fx_N (fx_F (mf_pi (mf_pi (mf_pi mf_rfl rfl) rfl) rfl)), mf_pi (mf_pi mf_rfl rfl) rfl⟩
  · rw [xx10_word, node_e q.2.1]
    simp only [bd]
    rw [is_n h1.2.1.1 k7]
    simp only
    rw [if_pos trivial, fail_x h1.2.1.1]
    rfl
  · rw [mm_word]
    simp only [sF_fold]
    rw [if_neg (tk_n (PS_tk h) hk (by decide)), fail_m h.2.1.2]
    rfl
theorem KX_nd' {σ σ' : mS} {r n : Int32} (h : KX σ σ' r) (e : sF σ' 584 = sF σ 584 + 1) (h1 : 0 ≤ sF σ 584 ∧ sF σ 584 < 1000000) (hn : n = sF σ 584) : n < sF σ' 584 := by
  rw [e, hn]; lia
/-- a word that becomes a string: the system's side -/
theorem wstr_y {N : Nat} {σ σ' : mS} (h : xx10_word N σ = some (sF σ 584, σ')) (q : inB (sF σ 584) 13000 = true) : xx10_wordString N σ = some (sF σ 584, md_ai σ' 576 (sF σ 584).toNatClampNeg 4) := by
  rw [xx10_wordString, h]
  simp only [bd, lt]
  rw [gd_of q, show vp_nar .byte (4 : Int32) = 4 from by decide]
/-- a string node and its text, before the next token -/
theorem strn_y {N : Nat} (hN : BIG ≤ N) {n p e : Int32} {t : Int32 → Int32} {A : Nat → Int} {w : WD} {o : Nat} {c : Int} {σ μ : mS} (h : PS n t A w p e o c σ μ) (hk : sF σ 707 = 4) (hc : c ≤ 590) : ∃ hx s σ1 μ1 L, xx10_stringNode N σ = bd (xx11_next N σ1) (fun z4 => some (sF σ 584, z4)) ∧ mm_intern N μ 65 0 (sF μ 66) = some (s, μ1) ∧ PS n t A (wAddX w hx s) p e o (c + 8 + L) σ1 μ1 ∧ (0 ≤ L ∧ p.toInt + L ≤ e.toInt ∧ p.toInt + 1 ≤ e.toInt) ∧ ND σ1 (sF σ 584) 4 hx (-1) (-1) (-1) (LN t p) p (-1) ∧ (∀ r, KX σ σ1 r) ∧ (sF σ1 584 = sF σ 584 + 1 ∧ sF σ1 590 = sF σ 590 ∧ sF σ1 707 = 4) ∧ m_fr fXW σ σ1 ∧ m_fr fWm2 μ μ1 := by
  have q := PS_584 h
  have h1 := PS_nd h 4 (by omega)
  obtain ⟨hx, s, τ, τm, L, e1, e2, h2, pe, f1, g1⟩ := stx_2 hN h1 hk (by omega)
  have h3 : PS n t A (wAddX w hx s) p e o (c + 3 + 5 + L) (md_ai τ 577 (sF σ 584).toNatClampNeg hx) τm := PS_ai h2 rfl
  have i0 := (KX_nd (σ := σ) (k := 4) (r := -1) q.1.1 q.1.2).2
  have kx : ∀ r, KX σ (md_ai τ 577 (sF σ 584).toNatClampNeg hx) r := fun r => KX_ai (KX_tr (KX_nd q.1.1 q.1.2).1 (KX_fr f1 X_KP)) q.1.1 (Int32.le_refl _) (by omega)
  refine ⟨hx, s, _, τm, L, ?_, e2, by rw [show c + 8 + L = c + 3 + 5 + L from by omega]; exact h3, pe, ?_, kx, ⟨?_, ?_, ?_⟩, mf_ai (mf_tr fx_N (fx_X f1)) rfl, fm_X g1⟩
  · rw [xx10_stringNode, node_e q.2.1]
    simp only [bd]
    rw [show (ndS σ 4).1 712 = sF (ndS σ 4) 712 from rfl, e1]
    simp only
    rw [gd_of q.2.1]
    simp only [lt]
  · have d := ND_new (σ := σ) (k := 4)
    rw [nk4] at d
    have l1 : sF σ 709 = LN t p := h.1.2.2.2.1.1
    have l2 : sF σ 708 = p := h.1.2.2.1.1
    rw [l1, l2] at d
    exact ND_A (ND_fr d f1 X_KP)
  · rw [sF_ai, mf_F f1 rfl]; exact i0.1
  · rw [sF_ai, mf_F f1 rfl]; rfl
  · rw [sF_ai, mf_F f1 rfl]; exact hk
