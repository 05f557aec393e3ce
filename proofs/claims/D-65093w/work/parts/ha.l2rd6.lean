/-! LAYER 2: the two readers: signs of one side -/
theorem EMR_sl {N : Nat} {W : WD} {T : mS} {g o e : Nat} {n : Int32} {xs : List Int32} {μ ν μ' : mS} (f : m_fr slP μ ν) (h : EMR N W T g o e n xs ν μ') : EMR N W T g o e n xs μ μ' := ei_sl _ _ _ _ _ _ _ _ _ f h mf_rfl
theorem EMR_sr {N : Nat} {W : WD} {T : mS} {g o e : Nat} {n : Int32} {xs : List Int32} {μ ν μ' : mS} (h : EMR N W T g o e n xs μ ν) (f : m_fr slP ν μ') : EMR N W T g o e n xs μ μ' := ei_sl _ _ _ _ _ _ _ _ _ mf_rfl h f
theorem st_of {f : mS → Option mS} {μ ν ν' : mS} (a : m_fr slP μ ν) (h : f ν = some ν') : st f μ ν' := ⟨ν, ν', a, h, mf_rfl⟩
/-- both at a token, what is open left out -/
def PSw (n : Int32) (t : Int32 → Int32) (A : Nat → Int) (w : WD) (p e : Int32) (o : Nat) (c : Int) (σ μ : mS) : Prop := TkH n t p e σ μ ∧ (sF σ 646 = 0 ∧ sF μ 67 = 0) ∧ (RS w σ μ ∧ TMU μ ∧ FNR A σ μ) ∧ BXr A (20 * p.toInt + c) σ ∧ MI A n.toInt (20 * p.toInt + c) o μ ∧ 20 * p.toInt + c ≤ 20 * e.toInt + 700
theorem PS_w {n p e : Int32} {t : Int32 → Int32} {A : Nat → Int} {w : WD} {o : Nat} {c : Int} {σ μ : mS} (h : PS n t A w p e o c σ μ) : PSw n t A w p e o c σ μ := ⟨h.1, h.2.1, h.2.2.2.1, h.2.2.2.2.1, h.2.2.2.2.2.1, h.2.2.2.2.2.2⟩
theorem w_PS {n p e : Int32} {t : Int32 → Int32} {A : Nat → Int} {w : WD} {o : Nat} {c : Int} {σ μ : mS} (h : PSw n t A w p e o c σ μ) (g : OPN o σ μ) : PS n t A w p e o c σ μ := ⟨h.1, h.2.1, g, h.2.2.1, h.2.2.2.1, h.2.2.2.2.1, h.2.2.2.2.2⟩
theorem PSw_lo {n p e : Int32} {t : Int32 → Int32} {A : Nat → Int} {w : WD} {o : Nat} {c : Int} {σ μ : mS} (h : PSw n t A w p e (o + 1) c σ μ) : PSw n t A w p e o c σ μ := ⟨h.1, h.2.1, h.2.2.1, h.2.2.2.1, MI_lo h.2.2.2.2.1, h.2.2.2.2.2⟩
theorem PSw_pn {n p e : Int32} {t : Int32 → Int32} {A : Nat → Int} {w : WD} {o : Nat} {c : Int} {σ μ : mS} (h : PSw n t A w p e o c σ μ) : 0 ≤ p.toInt ∧ p.toInt ≤ e.toInt ∧ e.toInt ≤ n.toInt ∧ n.toInt ≤ 1280 := by
  obtain ⟨⟨_, ⟨a, b, c⟩, _⟩, _, _, _, m, _⟩ := h
  have d := m.2.1.2.2.2.2.2.2.2
  have a' := tI_le.mp a
  exact ⟨a', tI_le.mp b, tI_le.mp c, d.2⟩
theorem PSw_fr {P Q : Nat → Bool} {n p e : Int32} {t : Int32 → Int32} {A : Nat → Int} {w : WD} {o o' : Nat} {c c' : Int} {σ μ σ' μ' : mS} (h : PSw n t A w p e o c σ μ) (f : m_fr P σ σ') (g : m_fr Q μ μ') (hP : ∀ k, (705 ≤ k ∧ k ≤ 715) ∨ k = 12 ∨ (128 ≤ k ∧ k ≤ 142) ∨ k = 646 ∨ k = 590 ∨ k = 645 → P k = false) (hQ : ∀ k, (58 ≤ k ∧ k ≤ 66) ∨ k ≤ 15 ∨ k = 67 ∨ k = 82 ∨ k = 85 ∨ k = 87 → Q k = false) (hc : 20 * p.toInt + c' ≤ 20 * e.toInt + 700) (hb : BXr A (20 * p.toInt + c') σ') (hm : MI A n.toInt (20 * p.toInt + c') o' μ') : PSw n t A w p e o' c' σ' μ' := by
  obtain ⟨h1, h2, ⟨h4, h4', h4n⟩, h5, h6, h7⟩ := h
  refine ⟨TkH_fr h1 f g (fun k k0 k1 => hP k (.inl ⟨k0, k1⟩)) (hP 12 (by omega)) (fun k k0 k1 => hQ k (.inl ⟨k0, k1⟩)) (hQ 0 (by omega)) (hQ 1 (by omega)), ⟨by rw [mf_F f (hP 646 (by omega))]; exact h2.1, by rw [mf_F g (hQ 67 (by omega))]; exact h2.2⟩, ⟨RS_fr h4 f g (fun k k0 k1 => hP k (by omega)) (fun k k0 k1 _ => hQ k (by omega)), TMU_fr h4' g (hQ 2 (by omega)) (hQ 3 (by omega)) (hQ 5 (by omega)) (hQ 7 (by omega)) (hQ 10 (by omega)), FNR_fr h4n f g (hP 590 (by omega)) (hP 645 (by omega)) (hQ 82 (by omega)) (hQ 85 (by omega)) (hQ 87 (by omega))⟩, hb, hm, hc⟩
theorem nxw {N : Nat} (hN : BIG ≤ N) {n p e : Int32} {t : Int32 → Int32} {A : Nat → Int} {w : WD} {o : Nat} {c : Int} {σ μ : mS} (h : PSw n t A w p e o c σ μ) (k0 : ¬ sF σ 707 = 0) {c' : Int} (hc : 20 * p.toInt + c ≤ 20 * e.toInt + c' ∨ c ≤ 20 + c') (hc' : c' ≤ 700) : ∃ σ' μ' p' e', xx11_next N σ = some σ' ∧ mm_next N μ = some μ' ∧ PSw n t A w p' e' o c' σ' μ' ∧ p.toInt + 1 ≤ p'.toInt ∧ e.toInt ≤ p'.toInt ∧ (mm_endsTable N μ = some (b01 (decide (sF σ' 707 = 34)), μ) ∧ mm_isBeforeRest N μ = some (b01 (decide (sF σ' 707 = 42)), μ)) ∧ m_fr fTx σ σ' ∧ m_fr fTm μ μ' := by
  have q := PSw_pn h
  obtain ⟨h1, h2, ⟨h4, h4', h4n⟩, h5, h6, h7⟩ := h
  obtain ⟨σ', μ', p', e1, e2, e3, e4, e5, f, g⟩ := nxt_2 hN (TkH_TkP h1)
  have pe : p.toInt + 1 ≤ e.toInt := by
    obtain ⟨_, _, _, _, _, _, _, kd, _⟩ := h1
    rcases kd with q | q
    · exact absurd q.1 k0
    · have := tI_lt.mp q.1; omega
  have e3' := tI_le.mp e3
  have q2 := tI_le.mp e4.2.1.2.1
  have q' : p'.toInt ≤ n.toInt := tI_le.mp (Int32.le_trans e4.2.1.2.1 e4.2.1.2.2)
  refine ⟨σ', μ', p', _, e1, e2, ⟨e4, ⟨by rw [mf_F f rfl]; exact h2.1, by rw [mf_F g rfl]; exact h2.2⟩, ⟨RS_fr h4 f g (fun k k0 k1 => ?_) (fun k k0 k1 _ => ?_), ?_, FNR_fr h4n f g rfl rfl rfl rfl rfl⟩, BXr_up (BXr_fr h5 f rfl rfl rfl rfl) (by omega), MI_fr h6 g MIp_T (by omega) (by omega) (by unfold tF; rw [mf_F g rfl]; exact Int.le_refl _) (by unfold tF; rw [mf_F g rfl]; omega), by omega⟩, by omega, by omega, e5, f, g⟩
  · simp only [fTx, List.contains_cons, List.contains_nil, Bool.or_eq_false_iff, beq_eq_false_iff_ne]
    (repeat' (first | exact trivial | omega | apply And.intro))
  · simp only [fTm, List.contains_cons, List.contains_nil, Bool.or_eq_false_iff, beq_eq_false_iff_ne]
    (repeat' (first | exact trivial | omega | apply And.intro))
  · exact TMU_fr h4' g rfl rfl rfl rfl rfl
/-- a sign was laid down, its right side read, and it was taken away -/
theorem KPL_psh {P Q : Nat → Bool} {μ μ3 μ5 μ7 : mS} (f : m_fr P μ μ3) (k : KPL μ3 μ5) (g : m_fr Q μ5 μ7) (hP : ∀ k, [85, 106, 138, 140, 129, 67, 97, 96, 100, 102, 103, 137, 139, 87].contains k = true → P k = false) (hQ : ∀ k, [85, 106, 138, 140, 129, 67, 97, 96, 100, 102, 103, 137, 139, 87, 130, 131, 132].contains k = true → Q k = false) (h3 : sF μ 133 ≤ sF μ3 133) (hs : ∀ k, 0 ≤ k → k < sF μ 133 → sI μ3 130 k = sI μ 130 k ∧ sI μ3 131 k = sI μ 131 k ∧ sI μ3 132 k = sI μ 132 k) (h7 : sF μ7 133 = sF μ 133) : KPL μ μ7 := by
  obtain ⟨⟨k1, k2, k3, k4, k5, k6, k7⟩, b, c, d, e, e2, i, l⟩ := k
  have pf : ∀ k, [85, 106, 138, 140, 129, 67, 97, 96, 100, 102, 103, 137, 139, 87].contains k = true → sF μ3 k = sF μ k := fun k hk => mf_F f (hP k hk)
  have pi : ∀ k, [85, 106, 138, 140, 129, 67, 97, 96, 100, 102, 103, 137, 139, 87].contains k = true → ∀ j, sI μ3 k j = sI μ k j := fun k hk j => mf_I f (hP k hk)
  have qf : ∀ k, [85, 106, 138, 140, 129, 67, 97, 96, 100, 102, 103, 137, 139, 87, 130, 131, 132].contains k = true → sF μ7 k = sF μ5 k := fun k hk => mf_F g (hQ k hk)
  have qi : ∀ k, [85, 106, 138, 140, 129, 67, 97, 96, 100, 102, 103, 137, 139, 87, 130, 131, 132].contains k = true → ∀ j, sI μ7 k j = sI μ5 k j := fun k hk j => mf_I g (hQ k hk)
  rw [pf 97 rfl] at b c
  rw [pf 106 rfl] at k2 d
  rw [pf 138 rfl] at k4 e2
  rw [pf 140 rfl] at k5 i
  rw [pf 85 rfl] at k1 l
  refine ⟨⟨(qf 85 rfl).trans k1, (qf 106 rfl).trans k2, h7, (qf 138 rfl).trans k4, (qf 140 rfl).trans k5, (qf 129 rfl).trans (k6.trans (pf 129 rfl)), (qf 67 rfl).trans (k7.trans (pf 67 rfl))⟩, by rw [qf 97 rfl]; exact b, fun k k0 k1 => ?_, fun k k0 k1 => ?_, fun k k0 k1 => ?_, fun k k0 k1 => ?_, fun k k0 k1 => ?_, fun k k0 k1 => ?_⟩
  · rw [qi 96 rfl, c k k0 k1, pi 96 rfl]
  · obtain ⟨x, y, z⟩ := d k k0 k1
    rw [qi 100 rfl, qi 102 rfl, qi 103 rfl, x, y, z, pi 100 rfl, pi 102 rfl, pi 103 rfl]
    exact ⟨rfl, rfl, rfl⟩
  · obtain ⟨x, y, z⟩ := e k k0 (Int32.lt_of_lt_of_le k1 h3)
    rw [qi 130 rfl, qi 131 rfl, qi 132 rfl, x, y, z]
    exact hs k k0 k1
  · rw [qi 137 rfl, e2 k k0 k1, pi 137 rfl]
  · rw [qi 139 rfl, i k k0 k1, pi 139 rfl]
  · rw [qi 87 rfl, l k k0 k1, pi 87 rfl]
/-- tests of tokens -/
theorem sg_m {N : Nat} {μ : mS} {b : Int32} : mm_isSign N μ b = some (b01 (decide (sF μ 60 = 100 + b)), μ) := by
  rw [mm_isSign]
  simp only [sF_fold]
  by_cases c : sF μ 60 = 100 + b
  · rw [if_pos c, decide_eq_true c]; rfl
  · rw [if_neg c, decide_eq_false c]; rfl
theorem sg_y {N : Nat} {μ : mS} {b l : Int32} (h : sF μ 60 = l) (e : 100 + b = l) : mm_isSign N μ b = some (1, μ) := by
  rw [sg_m, e, h, decide_eq_true rfl]; rfl
theorem sg_n {N : Nat} {μ : mS} {b l : Int32} (h : ¬ sF μ 60 = l) (e : 100 + b = l) : mm_isSign N μ b = some (0, μ) := by
  rw [sg_m, e, decide_eq_false h]; rfl
def isUn (k : Int32) : Prop := k = 64 ∨ k = 27 ∨ k = 11 ∨ k = 17
theorem isU_y {N : Nat} {σ μ : mS} (h : TKr σ μ) (u : isUn (sF σ 707)) : mm_isUnary N μ = some (1, μ) := by
  have y : mm_isUnary_36 N μ = some (1, μ) := rfl
  rw [mm_isUnary]
  simp only [sF_fold]
  by_cases c : sF μ 60 = 24
  · rw [if_pos c]; exact y
  rw [if_neg c]
  by_cases c1 : sF μ 60 = 135
  · rw [sg_y c1 (by decide), bd_so]; dsimp only; rw [if_neg (by decide)]; exact y
  rw [sg_n c1 (by decide), bd_so, if_pos rfl]
  by_cases c2 : sF μ 60 = 145
  · rw [sg_y c2 (by decide), bd_so]; dsimp only; rw [if_neg (by decide)]; exact y
  rw [sg_n c2 (by decide), bd_so, if_pos rfl]
  by_cases c3 : sF μ 60 = 226
  · rw [sg_y c3 (by decide), bd_so]; dsimp only; rw [if_neg (by decide)]; exact y
  exfalso
  rcases u with u | u | u | u
  · exact c (tk_y h u (by decide))
  · exact c1 (tk_y h u (by decide))
  · exact c2 (tk_y h u (by decide))
  · exact c3 (tk_y h u (by decide))
theorem isU_n {N : Nat} {σ μ : mS} (h : TKr σ μ) (u : ¬ isUn (sF σ 707)) : mm_isUnary N μ = some (0, μ) := by
  have u1 : ¬ sF σ 707 = 64 := fun q => u (.inl q)
  have u2 : ¬ sF σ 707 = 27 := fun q => u (.inr (.inl q))
  have u3 : ¬ sF σ 707 = 11 := fun q => u (.inr (.inr (.inl q)))
  have u4 : ¬ sF σ 707 = 17 := fun q => u (.inr (.inr (.inr q)))
  rw [mm_isUnary]
  simp only [sF_fold]
  rw [if_neg (tk_n h u1 (by decide)), sg_n (tk_n h u2 (show kin 135 = 27 by decide)) (by decide), bd_so, if_pos rfl, sg_n (tk_n h u3 (show kin 145 = 11 by decide)) (by decide), bd_so, if_pos rfl, sg_n (tk_n h u4 (show kin 226 = 17 by decide)) (by decide), bd_so, if_pos rfl]
  rfl
