/-! LAYER 2: tokens: the next token -/
def fTx (k : Nat) : Bool := [707, 708, 709, 710, 711, 712, 713, 714, 715].contains k
def fTm (k : Nat) : Bool := [58, 59, 60, 61, 62, 63, 64, 65, 66].contains k
/-- the text on both sides -/
def TE (n : Int32) (t : Int32 → Int32) (σ μ : mS) : Prop := TXo n t ∧ TXx n t σ ∧ TXm n t μ ∧ ∀ k, 0 ≤ k → k < n → sI σ 12 k = sI μ 0 k ∧ isB (sI σ 12 k)
theorem TE_fr {P Q : Nat → Bool} {n : Int32} {t : Int32 → Int32} {σ μ σ' μ' : mS} (E : TE n t σ μ) (f : m_fr P σ σ') (g : m_fr Q μ μ') (h1 : P 706 = false) (h2 : P 705 = false) (h3 : P 12 = false) (h4 : Q 1 = false) (h5 : Q 0 = false) : TE n t σ' μ' := by
  obtain ⟨T, X, Y, B⟩ := E
  refine ⟨T, TXx_fr X f h1 h2 h3, TXm_fr Y g h4 h5, fun k k0 k1 => ?_⟩
  rw [mf_I f h3, mf_I g h5]
  exact B k k0 k1
/-- what a token of its kind holds -/
def KD (t : Int32 → Int32) (p e : Int32) (σ μ : mS) : Prop := (sF σ 707 = 0 ∧ e = p ∧ t p = -1) ∨ (p < e ∧ (sF σ 707 = 1 ∨ (10 ≤ sF σ 707 ∧ sF σ 707 ≤ 42) ∨ (sF σ 707 = 3 ∧ sG σ 710 = sG μ 64) ∨ (sF σ 707 = 4 ∧ ∃ L, SBy L σ μ ∧ L.toInt ≤ e.toInt - p.toInt) ∨ ((sF σ 707 = 2 ∨ (50 ≤ sF σ 707 ∧ sF σ 707 ≤ 71)) ∧ (sF σ 712 = e - p ∧ e - p ≤ 40) ∧ ∀ k, 0 ≤ k → k < e - p → sI σ 711 k = sI σ 12 (p + k))))
/-- kinds that are looked at ahead -/
def K3 (t : Int32 → Int32) (p k : Int32) : Prop := (k = 34 ↔ t p = 125) ∧ (k = 42 ↔ t p = 46 ∧ t (p + 1) = 46 ∧ t (p + 2) = 46) ∧ k ≠ 28 ∧ k ≠ 29
theorem K3_no {t : Int32 → Int32} {p k : Int32} (h1 : k ≠ 34) (h2 : k ≠ 42) (h3 : t p ≠ 125) (h4 : t p ≠ 46) (h5 : k ≠ 28 ∧ k ≠ 29) : K3 t p k := ⟨⟨fun h => absurd h h1, fun h => absurd h h3⟩, ⟨fun h => absurd h h2, fun h => absurd h.1 h4⟩, h5⟩
/-- where the next token is looked for -/
def TkP (n : Int32) (t : Int32 → Int32) (e : Int32) (σ μ : mS) : Prop := TE n t σ μ ∧ (0 ≤ e ∧ e ≤ n) ∧ (sF σ 713 = e ∧ sF μ 62 = e) ∧ (0 ≤ sF σ 714 ∧ sF σ 714 ≤ e ∧ sF σ 715 = LN t (sF σ 714)) ∧ (0 ≤ sF μ 58 ∧ sF μ 58 ≤ e ∧ sF μ 59 = LN t (sF μ 58))
/-- the token at hand: at p, behind it e -/
def TkH (n : Int32) (t : Int32 → Int32) (p e : Int32) (σ μ : mS) : Prop := TE n t σ μ ∧ (0 ≤ p ∧ p ≤ e ∧ e ≤ n) ∧ (sF σ 708 = p ∧ sF μ 58 = p ∧ sF μ 61 = p) ∧ (sF σ 709 = LN t p ∧ sF μ 59 = LN t p ∧ sF μ 63 = LN t p) ∧ (sF σ 714 = p ∧ sF σ 715 = LN t p) ∧ (sF σ 713 = e ∧ sF μ 62 = e) ∧ sF μ 60 = kmp (sF σ 707) ∧ KD t p e σ μ ∧ K3 t p (sF σ 707)
theorem TkH_TkP {n p e : Int32} {t : Int32 → Int32} {σ μ : mS} (h : TkH n t p e σ μ) : TkP n t e σ μ := by
  obtain ⟨E, ⟨a1, a2, a3⟩, ⟨b1, b2, b3⟩, ⟨c1, c2, c3⟩, ⟨d1, d2⟩, f, _, _, _⟩ := h
  refine ⟨E, ⟨Int32.le_trans a1 a2, a3⟩, f, ?_, ?_⟩
  · rw [d1]; exact ⟨a1, a2, d2⟩
  · rw [b2]; exact ⟨a1, a2, c2⟩
def fKx (k : Nat) : Bool := [707, 710, 711, 712, 713].contains k
def fKm (k : Nat) : Bool := [60, 62, 64, 65, 66].contains k
/-- behind the blanks: where the token is -/
def TB (n : Int32) (t : Int32 → Int32) (p : Int32) (σ μ : mS) : Prop := TE n t σ μ ∧ (0 ≤ p ∧ p ≤ n) ∧ (sF σ 708 = p ∧ sF μ 58 = p ∧ sF μ 61 = p) ∧ (sF σ 709 = LN t p ∧ sF μ 59 = LN t p ∧ sF μ 63 = LN t p) ∧ (sF σ 714 = p ∧ sF σ 715 = LN t p) ∧ (sF σ 713 = p + 1 ∧ sF μ 62 = p + 1) ∧ sF μ 60 = 1
theorem TB_TK {n p : Int32} {t : Int32 → Int32} {σ μ σ' μ' : mS} (h : TB n t p σ μ) (f : m_fr fKx σ σ') (g : m_fr fKm μ μ') (e1 : sF σ' 713 = sF μ' 62) (e2 : p ≤ sF σ' 713 ∧ sF σ' 713 ≤ n) (k : sF μ' 60 = kmp (sF σ' 707)) (kd : KD t p (sF σ' 713) σ' μ') (k3 : K3 t p (sF σ' 707)) : TkH n t p (sF σ' 713) σ' μ' := by
  obtain ⟨E, a, ⟨b1, b2, b3⟩, ⟨c1, c2, c3⟩, ⟨d1, d2⟩, _⟩ := h
  refine ⟨TE_fr E f g rfl rfl rfl rfl rfl, ⟨a.1, e2.1, e2.2⟩, ⟨?_, ?_, ?_⟩, ⟨?_, ?_, ?_⟩, ⟨?_, ?_⟩, ⟨rfl, e1.symm⟩, k, kd, k3⟩
  · rw [mf_F f rfl]; exact b1
  · rw [mf_F g rfl]; exact b2
  · rw [mf_F g rfl]; exact b3
  · rw [mf_F f rfl]; exact c1
  · rw [mf_F g rfl]; exact c2
  · rw [mf_F g rfl]; exact c3
  · rw [mf_F f rfl]; exact d1
  · rw [mf_F f rfl]; exact d2
theorem fK_N {σ τ : mS} (h : m_fr fNx σ τ) : m_fr fKx σ τ := mf_mono h (fun k hk => by
  simp only [fKx, fNx, List.contains_cons, List.contains_nil, Bool.or_eq_false_iff, beq_eq_false_iff_ne] at hk ⊢
  (repeat' (first | exact trivial | omega | apply And.intro)))
theorem fK_Nm {σ τ : mS} (h : m_fr fNm σ τ) : m_fr fKm σ τ := mf_mono h (fun k hk => by
  simp only [fKm, fNm, List.contains_cons, List.contains_nil, Bool.or_eq_false_iff, beq_eq_false_iff_ne] at hk ⊢
  (repeat' (first | exact trivial | omega | apply And.intro)))
theorem fK_Q {σ τ : mS} (h : m_fr fQx σ τ) : m_fr fKx σ τ := mf_mono h (fun k hk => by
  simp only [fKx, fQx, List.contains_cons, List.contains_nil, Bool.or_eq_false_iff, beq_eq_false_iff_ne] at hk ⊢
  (repeat' (first | exact trivial | omega | apply And.intro)))
theorem fK_Qm {σ τ : mS} (h : m_fr fQm σ τ) : m_fr fKm σ τ := mf_mono h (fun k hk => by
  simp only [fKm, fQm, List.contains_cons, List.contains_nil, Bool.or_eq_false_iff, beq_eq_false_iff_ne] at hk ⊢
  (repeat' (first | exact trivial | omega | apply And.intro)))
theorem fK_W {σ τ : mS} (h : m_fr fWx σ τ) : m_fr fKx σ τ := mf_mono h (fun k hk => by
  simp only [fKx, fWx, List.contains_cons, List.contains_nil, Bool.or_eq_false_iff, beq_eq_false_iff_ne] at hk ⊢
  (repeat' (first | exact trivial | omega | apply And.intro)))
theorem fK_Wm {σ τ : mS} (h : m_fr fWm σ τ) : m_fr fKm σ τ := mf_mono h (fun k hk => by
  simp only [fKm, fWm, List.contains_cons, List.contains_nil, Bool.or_eq_false_iff, beq_eq_false_iff_ne] at hk ⊢
  (repeat' (first | exact trivial | omega | apply And.intro)))
theorem fK_S {σ τ : mS} (h : m_fr fSx σ τ) : m_fr fKx σ τ := fK_Q (fQx_S h)
theorem fK_Sm {σ τ : mS} (h : m_fr fSm σ τ) : m_fr fKm σ τ := fK_Qm (fQm_S h)
theorem fK_T {σ τ : mS} (h : m_fr fKx σ τ) : m_fr fTx σ τ := mf_mono h (fun k hk => by
  simp only [fTx, fKx, List.contains_cons, List.contains_nil, Bool.or_eq_false_iff, beq_eq_false_iff_ne] at hk ⊢
  (repeat' (first | exact trivial | omega | apply And.intro)))
theorem fK_Tm {σ τ : mS} (h : m_fr fKm σ τ) : m_fr fTm σ τ := mf_mono h (fun k hk => by
  simp only [fTm, fKm, List.contains_cons, List.contains_nil, Bool.or_eq_false_iff, beq_eq_false_iff_ne] at hk ⊢
  (repeat' (first | exact trivial | omega | apply And.intro)))
theorem fK_G {σ τ : mS} (h : m_fr (fun k => [707, 713].contains k) σ τ) : m_fr fKx σ τ := mf_mono h (fun k hk => by
  simp only [fKx, List.contains_cons, List.contains_nil, Bool.or_eq_false_iff, beq_eq_false_iff_ne] at hk ⊢
  (repeat' (first | exact trivial | omega | apply And.intro)))
theorem fK_Gm {σ τ : mS} (h : m_fr (fun k => [60, 62].contains k) σ τ) : m_fr fKm σ τ := mf_mono h (fun k hk => by
  simp only [fKm, List.contains_cons, List.contains_nil, Bool.or_eq_false_iff, beq_eq_false_iff_ne] at hk ⊢
  (repeat' (first | exact trivial | omega | apply And.intro)))
/-- both have the token -/
def NX2 (n : Int32) (t : Int32 → Int32) (p : Int32) (σ μ : mS) (X Y : Option mS) : Prop := ∃ σ' μ', X = some σ' ∧ Y = some μ' ∧ TkH n t p (sF σ' 713) σ' μ' ∧ m_fr fKx σ σ' ∧ m_fr fKm μ μ'
theorem sign_k {N : Nat} {n p c : Int32} {t : Int32 → Int32} {σ σ' : mS} (T : TXo n t) (X : TXx n t σ) (p1 : 0 ≤ p + 1) (p2 : 0 ≤ p + 2) (hc : t p = c) (h708 : sF σ 708 = p) (h : xx11_sign N σ c = some σ') : K3 t p (sF σ' 707) := by
  have ee := fun (x y z : Int32) => either_t (N := N) (x := x) (y := y) (z := z) T X h708 p1
  have no : ∀ (k : Int32) (τ : mS), some (md_pi τ 707 k) = some σ' → k ≠ 34 → k ≠ 42 ∧ k ≠ 28 ∧ k ≠ 29 → c ≠ 125 → c ≠ 46 → K3 t p (sF σ' 707) := fun k τ e k1 k2 c1 c2 => by
    cases e
    exact K3_no k1 k2.1 (by rw [hc]; exact c1) (by rw [hc]; exact c2) k2.2
  rw [xx11_sign] at h
  by_cases c37 : c = 37
  · rw [if_pos c37] at h
    exact no 14 _ h (by decide) (by decide) (by rw [c37]; decide) (by rw [c37]; decide)
  rw [if_neg c37] at h
  by_cases c38 : c = 38
  · rw [if_pos c38] at h
    exact no 15 _ h (by decide) (by decide) (by rw [c38]; decide) (by rw [c38]; decide)
  rw [if_neg c38] at h
  by_cases c42 : c = 42
  · rw [if_pos c42] at h
    exact no 12 _ h (by decide) (by decide) (by rw [c42]; decide) (by rw [c42]; decide)
  rw [if_neg c42] at h
  by_cases c43 : c = 43
  · rw [if_pos c43] at h
    exact no 10 _ h (by decide) (by decide) (by rw [c43]; decide) (by rw [c43]; decide)
  rw [if_neg c43] at h
  by_cases c45 : c = 45
  · rw [if_pos c45] at h
    exact no 11 _ h (by decide) (by decide) (by rw [c45]; decide) (by rw [c45]; decide)
  rw [if_neg c45] at h
  by_cases c46 : c = 46
  · rw [if_pos c46, ee] at h
    by_cases d : t (p + 1) = 46
    · rw [if_pos d] at h
      simp only [bd, lt, sF_fold] at h
      rw [show sF (md_pi (md_pi σ 713 (p + 2)) 707 26) 707 = 26 from rfl, if_pos rfl, show sF (md_pi (md_pi σ 713 (p + 2)) 707 26) 713 = p + 2 from rfl, at_t T (TXx_fr X (mf_pi (P := fTx) (mf_pi mf_rfl rfl) rfl) rfl rfl rfl) p2] at h
      dsimp only at h
      by_cases d2 : t (p + 2) = 46
      · rw [if_pos d2] at h
        have h : some (md_pi (md_pi (md_pi (md_pi σ 713 (p + 2)) 707 26) 707 42) 713 (sF (md_pi (md_pi (md_pi σ 713 (p + 2)) 707 26) 707 42) 713 + 1)) = some σ' := h
        cases h
        exact ⟨⟨fun q => absurd (show (42 : Int32) = 34 from q) (by decide), fun q => by rw [hc, c46] at q; exact absurd q (by decide)⟩, ⟨fun _ => ⟨by rw [hc, c46], d, d2⟩, fun _ => rfl⟩, (show (42 : Int32) ≠ 28 by decide), (show (42 : Int32) ≠ 29 by decide)⟩
      · rw [if_neg d2] at h
        have h : some (md_pi (md_pi σ 713 (p + 2)) 707 26) = some σ' := h
        cases h
        exact ⟨⟨fun q => absurd (show (26 : Int32) = 34 from q) (by decide), fun q => by rw [hc, c46] at q; exact absurd q (by decide)⟩, ⟨fun q => absurd (show (26 : Int32) = 42 from q) (by decide), fun q => absurd q.2.2 d2⟩, (show (26 : Int32) ≠ 28 by decide), (show (26 : Int32) ≠ 29 by decide)⟩
    · rw [if_neg d] at h
      simp only [bd, lt, sF_fold] at h
      rw [show sF (md_pi σ 707 41) 707 = 41 from rfl, if_neg (by decide)] at h
      have h : some (md_pi σ 707 41) = some σ' := h
      cases h
      exact ⟨⟨fun q => absurd (show (41 : Int32) = 34 from q) (by decide), fun q => by rw [hc, c46] at q; exact absurd q (by decide)⟩, ⟨fun q => absurd (show (41 : Int32) = 42 from q) (by decide), fun q => absurd q.2.1 d⟩, (show (41 : Int32) ≠ 28 by decide), (show (41 : Int32) ≠ 29 by decide)⟩
  rw [if_neg c46] at h
  by_cases c47 : c = 47
  · rw [if_pos c47, ee] at h
    by_cases d : t (p + 1) = 47
    · rw [if_pos d] at h
      exact no 13 _ h (by decide) (by decide) (by rw [c47]; decide) c46
    · rw [if_neg d] at h
      exact no 1 _ h (by decide) (by decide) (by rw [c47]; decide) c46
  rw [if_neg c47] at h
  by_cases c58 : c = 58
  · rw [if_pos c58, ee] at h
    by_cases d : t (p + 1) = 58
    · rw [if_pos d] at h
      exact no 37 _ h (by decide) (by decide) (by rw [c58]; decide) c46
    · rw [if_neg d] at h
      exact no 39 _ h (by decide) (by decide) (by rw [c58]; decide) c46
  rw [if_neg c58] at h
  by_cases c60 : c = 60
  · rw [if_pos c60, show σ.1 708 = p from h708, at_t T X p1] at h
    simp only [bd] at h
    by_cases d : t (p + 1) = 60
    · rw [if_pos d, ee, if_pos d] at h
      exact no 18 _ h (by decide) (by decide) (by rw [c60]; decide) c46
    · rw [if_neg d, ee] at h
      by_cases d2 : t (p + 1) = 61
      · rw [if_pos d2] at h
        exact no 24 _ h (by decide) (by decide) (by rw [c60]; decide) c46
      · rw [if_neg d2] at h
        exact no 22 _ h (by decide) (by decide) (by rw [c60]; decide) c46
  rw [if_neg c60] at h
  by_cases c61 : c = 61
  · rw [if_pos c61, ee] at h
    by_cases d : t (p + 1) = 61
    · rw [if_pos d] at h
      exact no 20 _ h (by decide) (by decide) (by rw [c61]; decide) c46
    · rw [if_neg d] at h
      exact no 30 _ h (by decide) (by decide) (by rw [c61]; decide) c46
  rw [if_neg c61] at h
  by_cases c62 : c = 62
  · rw [if_pos c62, show σ.1 708 = p from h708, at_t T X p1] at h
    simp only [bd] at h
    by_cases d : t (p + 1) = 62
    · rw [if_pos d, ee, if_pos d] at h
      exact no 19 _ h (by decide) (by decide) (by rw [c62]; decide) c46
    · rw [if_neg d, ee] at h
      by_cases d2 : t (p + 1) = 61
      · rw [if_pos d2] at h
        exact no 25 _ h (by decide) (by decide) (by rw [c62]; decide) c46
      · rw [if_neg d2] at h
        exact no 23 _ h (by decide) (by decide) (by rw [c62]; decide) c46
  rw [if_neg c62] at h
  by_cases c124 : c = 124
  · rw [if_pos c124] at h
    exact no 16 _ h (by decide) (by decide) (by rw [c124]; decide) c46
  rw [if_neg c124] at h
  by_cases c126 : c = 126
  · rw [if_pos c126, ee] at h
    by_cases d : t (p + 1) = 61
    · rw [if_pos d] at h
      exact no 21 _ h (by decide) (by decide) (by rw [c126]; decide) c46
    · rw [if_neg d] at h
      exact no 17 _ h (by decide) (by decide) (by rw [c126]; decide) c46
  rw [if_neg c126, xx11_single] at h
  by_cases c35 : c = 35
  · rw [if_pos c35] at h
    exact no 27 _ h (by decide) (by decide) (by rw [c35]; decide) c46
  rw [if_neg c35] at h
  by_cases c40 : c = 40
  · rw [if_pos c40] at h
    exact no 31 _ h (by decide) (by decide) (by rw [c40]; decide) c46
  rw [if_neg c40] at h
  by_cases c41 : c = 41
  · rw [if_pos c41] at h
    exact no 32 _ h (by decide) (by decide) (by rw [c41]; decide) c46
  rw [if_neg c41] at h
  by_cases c44 : c = 44
  · rw [if_pos c44] at h
    exact no 40 _ h (by decide) (by decide) (by rw [c44]; decide) c46
  rw [if_neg c44] at h
  by_cases c59 : c = 59
  · rw [if_pos c59] at h
    exact no 38 _ h (by decide) (by decide) (by rw [c59]; decide) c46
  rw [if_neg c59] at h
  by_cases c91 : c = 91
  · rw [if_pos c91] at h
    exact no 35 _ h (by decide) (by decide) (by rw [c91]; decide) c46
  rw [if_neg c91] at h
  by_cases c93 : c = 93
  · rw [if_pos c93] at h
    exact no 36 _ h (by decide) (by decide) (by rw [c93]; decide) c46
  rw [if_neg c93] at h
  by_cases c123 : c = 123
  · rw [if_pos c123] at h
    exact no 33 _ h (by decide) (by decide) (by rw [c123]; decide) c46
  rw [if_neg c123] at h
  by_cases c125 : c = 125
  · rw [if_pos c125] at h
    have h : some (md_pi σ 707 34) = some σ' := h
    cases h
    exact ⟨⟨fun _ => by rw [hc, c125], fun _ => rfl⟩, ⟨fun q => absurd (show (34 : Int32) = 42 from q) (by decide), fun q => by rw [hc, c125] at q; exact absurd q.1 (by decide)⟩, (show (34 : Int32) ≠ 28 by decide), (show (34 : Int32) ≠ 29 by decide)⟩
  rw [if_neg c125] at h
  exact no 1 _ h (by decide) (by decide) c125 c46
/-- a sign -/
theorem nx_sign {N : Nat} {n p c : Int32} {t : Int32 → Int32} {σ0 μ0 σ μ : mS} (h : TB n t p σ0 μ0) (f : m_fr fSx σ0 σ) (g : m_fr fSm μ0 μ) (pn : p < n) (hc : t p = c) : NX2 n t p σ0 μ0 (xx11_next_b161 N c σ) (mm_next_141 N c μ) := by
  have h' := h
  obtain ⟨E, a, ⟨b1, b2, b3⟩, ⟨c1, c2, c3⟩, ⟨d1, d2⟩, ⟨e1, e2⟩, k⟩ := h
  obtain ⟨T, X, Y, B⟩ := TE_fr E f g rfl rfl rfl rfl rfl
  have q := tpl_1 T a.1 pn
  have q2 : 0 ≤ p + 2 := by
    have n1 := T.1.2
    clear h' E T X Y B
    lia
  obtain ⟨σ', μ', r1, r2, ⟨⟨k1, k2⟩, r4, r5, r6⟩⟩ := sign_2 (N := N) T X a.1 pn (by rw [mf_F f rfl]; exact b1) (by rw [mf_F f rfl]; exact e1) (by rw [mf_F g rfl]; exact b2) (by rw [mf_F g rfl]; exact e2) (by rw [mf_F g rfl]; exact k) rfl rfl (c := c)
  have z : mm_next_141 N c μ = some μ' := by
    rw [mm_next_141, show μ.1 58 = p from by rw [sF_fold, mf_F g rfl]; exact b2, sg_t T Y q.1]
    simp only [bd]
    rw [show μ.1 58 = p from by rw [sF_fold, mf_F g rfl]; exact b2, sg_t T Y q2]
    simp only
    rw [r2]
    rfl
  have f' := mf_tr (fK_S f) (fK_G r5)
  have g' := mf_tr (fK_Sm g) (fK_Gm r6)
  refine ⟨σ', μ', by rw [xx11_next_b161, r1]; rfl, z, TB_TK h' f' g' r4.1 ⟨Int32.le_of_lt r4.2.1, r4.2.2⟩ k1 (.inr ⟨r4.2.1, ?_⟩) (sign_k T X q.1 q2 hc (by rw [mf_F f rfl]; exact b1) r1), f', g'⟩
  rcases k2 with q | q
  · exact .inl q
  · exact .inr (.inl q)
/-- quoted strings -/
theorem nx_quoted {N : Nat} (hN : BIG ≤ N) {n p c : Int32} {t : Int32 → Int32} {σ μ : mS} (h : TB n t p σ μ) (pn : p < n) (c0 : 0 ≤ c) (h1 : t p ≠ 125) (h2 : t p ≠ 46) : NX2 n t p σ μ (xx11_next_b103 N c σ) (mm_next_120 N c μ) := by
  have h' := h
  obtain ⟨E, a, ⟨b1, b2, b3⟩, ⟨c1, c2, c3⟩, ⟨d1, d2⟩, ⟨e1, e2⟩, k⟩ := h
  obtain ⟨T, X, Y, B⟩ := E
  have q := tpl_1 T a.1 pn
  rw [xx11_next_b103, mm_next_120]
  rcases quoted_2 hN T X Y c0 a.1 pn b1 b2 with ⟨σ', μ', L, r1, r2, ⟨S, SL⟩, r4, r5, f, g⟩ | ⟨σ', μ', r1, r2, f, g⟩
  · rw [r1, r2]
    simp only [bd]
    rw [if_neg (by decide), xx11_next_b117, lt]
    have f' : m_fr fKx σ (md_pi σ' 707 4) := mf_pi (fK_Q f) rfl
    exact ⟨_, _, rfl, rfl, TB_TK (σ' := md_pi σ' 707 4) h' f' (fK_Qm g) r4.1 ⟨Int32.le_of_lt r4.2.1, r4.2.2⟩ r5 (.inr ⟨r4.2.1, .inr (.inr (.inr (.inl ⟨rfl, L, S, SL⟩)))⟩) (K3_no (show (4 : Int32) ≠ 34 by decide) (show (4 : Int32) ≠ 42 by decide) h1 h2 ⟨show (4 : Int32) ≠ 28 by decide, show (4 : Int32) ≠ 29 by decide⟩), f', fK_Qm g⟩
  · rw [r1, r2]
    simp only [bd]
    rw [if_pos trivial, xx11_next_b117, lt]
    have f' : m_fr fKx σ (md_pi σ' 707 1) := mf_pi (fK_S f) rfl
    have e1' : sF (md_pi σ' 707 1) 713 = p + 1 := by rw [sF_pi, if_neg (by decide), mf_F f rfl]; exact e1
    have e2' : sF μ' 62 = p + 1 := by rw [mf_F g rfl]; exact e2
    refine ⟨_, _, rfl, rfl, TB_TK (σ' := md_pi σ' 707 1) h' f' (fK_Sm g) (by rw [e1', e2']) ?_ (by rw [mf_F g rfl]; exact k) (.inr ⟨?_, .inl rfl⟩) (K3_no (show (1 : Int32) ≠ 34 by decide) (show (1 : Int32) ≠ 42 by decide) h1 h2 ⟨show (1 : Int32) ≠ 28 by decide, show (1 : Int32) ≠ 29 by decide⟩), f', fK_Sm g⟩
    · rw [e1']; exact ⟨Int32.le_of_lt q.2.1, q.2.2⟩
    · rw [e1']; exact q.2.1
/-- what begins with [ -/
theorem nx_long {N : Nat} (hN : BIG ≤ N) {n p c : Int32} {t : Int32 → Int32} {σ μ : mS} (h : TB n t p σ μ) (pn : p < n) (hc : t p = c) : NX2 n t p σ μ (bd (xx11_bracket N σ (sF σ 708) 91) (fun z12 => (if z12.1 < 0 then xx11_next_b161 N c z12.2 else bd (xx11_bracket N z12.2 ((z12.2.1 708)) (91)) (fun z13 => bd (xx11_longString N z13.2 z13.1) (fun z14 => (if z14.1 = 0 then xx11_next_b161 N c z14.2 else lt (md_pi z14.2 707 (4)) (fun σ15 : mS => xx11_next_b166 N σ15))))))) (if c = 91 then bd (mm_readLong N μ) (fun z15 => (if z15.1 = 0 then mm_next_141 N c z15.2 else mm_next_166 N z15.2)) else mm_next_141 N c μ) := by
  have h' := h
  obtain ⟨E, a, ⟨b1, b2, b3⟩, ⟨c1, c2, c3⟩, ⟨d1, d2⟩, ⟨e1, e2⟩, k⟩ := h
  obtain ⟨T, X, Y, B⟩ := E
  have bx := bracket_t hN T X (i := p) (m := 91) a.1 (by decide)
  rw [b1, bx]
  simp only [bd]
  by_cases d : brk t p 91 < 0
  · rw [if_pos d]
    by_cases e : c = 91
    · rw [if_pos e, long_n hN T Y a.1 b2 d]
      simp only
      rw [if_pos trivial]
      exact nx_sign h' mf_rfl mf_rfl pn hc
    · rw [if_neg e]
      exact nx_sign h' mf_rfl mf_rfl pn hc
  · have e : c = 91 := by
      rw [← hc]
      rcases brk_r T (i := p) (m := 91) a.1 (by decide) with q | q
      · rw [q] at d; exact absurd (by decide) d
      · exact q.2.2.1
    have h1 : t p ≠ 125 := by rw [hc, e]; decide
    have h2 : t p ≠ 46 := by rw [hc, e]; decide
    rw [if_neg d, if_pos e, show σ.1 708 = p from b1, bx]
    simp only
    rcases long_2 hN T X Y a.1 pn b1 b2 (Int32.not_lt.mp d) with ⟨σ', μ', L, r1, r2, ⟨S, SL⟩, r4, r5, f, g⟩ | ⟨σ', μ', r1, r2, f, g⟩
    · rw [r1, r2]
      simp only
      rw [if_neg (by decide), if_neg (by decide), lt]
      have f' : m_fr fKx σ (md_pi σ' 707 4) := mf_pi (fK_Q f) rfl
      exact ⟨_, _, rfl, rfl, TB_TK (σ' := md_pi σ' 707 4) h' f' (fK_Qm g) r4.1 ⟨Int32.le_of_lt r4.2.1, r4.2.2⟩ r5 (.inr ⟨r4.2.1, .inr (.inr (.inr (.inl ⟨rfl, L, S, SL⟩)))⟩) (K3_no (show (4 : Int32) ≠ 34 by decide) (show (4 : Int32) ≠ 42 by decide) h1 h2 ⟨show (4 : Int32) ≠ 28 by decide, show (4 : Int32) ≠ 29 by decide⟩), f', fK_Qm g⟩
    · rw [r1, r2]
      simp only
      rw [if_pos trivial, if_pos trivial]
      exact nx_sign h' f g pn hc
theorem nx_word {N : Nat} (hN : BIG ≤ N) {n p : Int32} {t : Int32 → Int32} {σ μ : mS} (h : TB n t p σ μ) (pn : p < n) (ha : isLt (t p) = true) : NX2 n t p σ μ (bd (xx11_word N σ) (fun z17 => xx11_next_b166 N z17)) (bd (mm_readWord N μ) (fun z17 => mm_next_166 N z17)) := by
  have h' := h
  obtain ⟨E, a, ⟨b1, b2, b3⟩, ⟨c1, c2, c3⟩, ⟨d1, d2⟩, ⟨e1, e2⟩, k⟩ := h
  obtain ⟨T, X, Y, B⟩ := E
  obtain ⟨σ', μ', r1, r2, r3, r4, r5, f, g⟩ := word_2 hN T X Y (fun k k0 k1 => (B k k0 k1).2) a.1 pn ha b1 e1 b2 k
  rw [r1, r2]
  have h1 : t p ≠ 125 := fun q => by rw [q] at ha; exact absurd ha (by decide)
  have h2 : t p ≠ 46 := fun q => by rw [q] at ha; exact absurd ha (by decide)
  have kk : sF σ' 707 ≠ 34 ∧ sF σ' 707 ≠ 42 ∧ sF σ' 707 ≠ 28 ∧ sF σ' 707 ≠ 29 := by
    rcases r5 with q | ⟨q | q, _⟩
    · rw [q]; decide
    · rw [q]; decide
    · refine ⟨fun e => ?_, fun e => ?_, fun e => ?_, fun e => ?_⟩
      · rw [e] at q; exact absurd q.1 (by decide)
      · rw [e] at q; exact absurd q.1 (by decide)
      · rw [e] at q; exact absurd q.1 (by decide)
      · rw [e] at q; exact absurd q.1 (by decide)
  refine ⟨σ', μ', rfl, rfl, TB_TK h' (fK_W f) (fK_Wm g) r3.1 ⟨Int32.le_of_lt r3.2.1, r3.2.2⟩ r4 (.inr ⟨r3.2.1, ?_⟩) (K3_no kk.1 kk.2.1 h1 h2 kk.2.2), fK_W f, fK_Wm g⟩
  rcases r5 with q | ⟨q1, q2, q3⟩
  · exact .inl q
  · exact .inr (.inr (.inr (.inr ⟨q1, q2, fun k k0 k1 => by rw [q3 k k0 k1, mf_I f rfl]⟩)))
theorem nx_num {N : Nat} (hN : BIG ≤ N) {n p : Int32} {t : Int32 → Int32} {σ μ : mS} (h : TB n t p σ μ) (ha : isDg (t p) = true) : NX2 n t p σ μ (bd (xx11_number N σ) (fun z17 => xx11_next_b166 N z17)) (bd (mm_readDigits N μ) (fun z17 => mm_next_166 N z17)) := by
  have h' := h
  obtain ⟨E, a, ⟨b1, b2, b3⟩, ⟨c1, c2, c3⟩, ⟨d1, d2⟩, ⟨e1, e2⟩, k⟩ := h
  obtain ⟨T, X, Y, B⟩ := E
  obtain ⟨σ', μ', r1, r2, r3, r4, f, g⟩ := number_2 hN T X Y a.1 a.2 ha b1 b2 e2 k
  rw [r1, r2]
  have kk : sF μ' 60 = kmp (sF σ' 707) := by
    rcases r3 with ⟨q1, q2, _⟩ | ⟨q1, q2⟩
    · rw [q1, q2]; decide
    · rw [q1, q2]; decide
  have h1 : t p ≠ 125 := fun q => by rw [q] at ha; exact absurd ha (by decide)
  have h2 : t p ≠ 46 := fun q => by rw [q] at ha; exact absurd ha (by decide)
  have k2 : sF σ' 707 ≠ 34 ∧ sF σ' 707 ≠ 42 ∧ sF σ' 707 ≠ 28 ∧ sF σ' 707 ≠ 29 := by
    rcases r3 with ⟨q, _, _⟩ | ⟨q, _⟩
    · rw [q]; decide
    · rw [q]; decide
  refine ⟨σ', μ', rfl, rfl, TB_TK h' (fK_N f) (fK_Nm g) r4.1 ⟨Int32.le_of_lt r4.2.1, r4.2.2⟩ kk (.inr ⟨r4.2.1, ?_⟩) (K3_no k2.1 k2.2.1 h1 h2 k2.2.2), fK_N f, fK_Nm g⟩
  rcases r3 with ⟨q1, q2, q3⟩ | ⟨q1, q2⟩
  · exact .inr (.inr (.inl ⟨q1, q3⟩))
  · exact .inl q1
theorem TX_0 {n k : Int32} {t : Int32 → Int32} (T : TXo n t) (k0 : 0 ≤ k) : (0 ≤ t k ↔ k < n) ∧ (¬ k < n → t k = -1) := by
  by_cases c : n ≤ k
  · rw [T.2.1 k c]
    exact ⟨⟨fun h => absurd h (by decide), fun h => absurd c (Int32.not_le.mpr h)⟩, fun _ => rfl⟩
  · have l := Int32.not_le.mp c
    exact ⟨⟨fun _ => l, fun _ => (T.2.2 k k0 l).1⟩, fun h => absurd l h⟩
/-- the next token: alike on both sides -/
theorem nxt_2 {N : Nat} (hN : BIG ≤ N) {n e : Int32} {t : Int32 → Int32} {σ μ : mS} (h : TkP n t e σ μ) : ∃ σ' μ' p, xx11_next N σ = some σ' ∧ mm_next N μ = some μ' ∧ e ≤ p ∧ TkH n t p (sF σ' 713) σ' μ' ∧ (mm_endsTable N μ = some (b01 (decide (sF σ' 707 = 34)), μ) ∧ mm_isBeforeRest N μ = some (b01 (decide (sF σ' 707 = 42)), μ)) ∧ m_fr fTx σ σ' ∧ m_fr fTm μ μ' := by
  obtain ⟨E, e0, ⟨h713, h62⟩, ⟨l0, l1, l2⟩, ⟨s0, s1, s2⟩⟩ := h
  obtain ⟨T, X, Y, B⟩ := E
  have sk := skF_r T N e e0.1 e0.2
  have bs := blanks_t hN T X e0.1 e0.2
  have bm := fun (μ1 : mS) (Y1 : TXm n t μ1) => behind_m hN T Y1 e0.1 e0.2
  generalize skF n t N e = p at sk bs bm
  have p0 : 0 ≤ p := Int32.le_trans e0.1 sk.1
  obtain ⟨τ, t1, t2, t3, t4⟩ := lineOf_lp (N := N) T sk.2 N (md_pi σ 708 p) (TXx_fr X (mf_pi (P := fTx) mf_rfl rfl) rfl rfl rfl) l0 (Int32.le_trans l1 sk.1) l2 (big_d hN)
  obtain ⟨υ1, u1, u2, u3, u4⟩ := step_lp (N := N) T e0.2 N μ Y s0 s1 s2 (big_d hN)
  have Y1 : TXm n t υ1 := TXm_fr Y u4 rfl rfl
  obtain ⟨υ, w1, w2, w3, w4⟩ := step_lp (N := N) T sk.2 N υ1 Y1 (by rw [u2]; exact e0.1) (by rw [u2]; exact sk.1) (by rw [u2]; exact u3) (big_d hN)
  have f0 : m_fr fTx σ (md_pi (md_pi τ 709 (LN t p)) 713 (p + 1)) := mf_pi (mf_pi (mf_tr (mf_pi mf_rfl rfl) (mf_mono t4 (fun k hk => by
    simp only [fTx, List.contains_cons, List.contains_nil, Bool.or_eq_false_iff, beq_eq_false_iff_ne] at hk ⊢
    (repeat' (first | exact trivial | omega | apply And.intro))))) rfl) rfl
  have g0 : m_fr fTm μ (md_pi (md_pi (md_pi (md_pi υ 61 p) 63 (LN t p)) 60 1) 62 (p + 1)) := mf_pi (mf_pi (mf_pi (mf_pi (mf_tr (mf_mono u4 (fun k hk => by
    simp only [fTm, List.contains_cons, List.contains_nil, Bool.or_eq_false_iff, beq_eq_false_iff_ne] at hk ⊢
    (repeat' (first | exact trivial | omega | apply And.intro)))) (mf_mono w4 (fun k hk => by
    simp only [fTm, List.contains_cons, List.contains_nil, Bool.or_eq_false_iff, beq_eq_false_iff_ne] at hk ⊢
    (repeat' (first | exact trivial | omega | apply And.intro))))) rfl) rfl) rfl) rfl
  have h708 : sF τ 708 = p := by rw [mf_F t4 rfl]; rfl
  have hTB : TB n t p (md_pi (md_pi τ 709 (LN t p)) 713 (p + 1)) (md_pi (md_pi (md_pi (md_pi υ 61 p) 63 (LN t p)) 60 1) 62 (p + 1)) := ⟨TE_fr ⟨T, X, Y, B⟩ f0 g0 rfl rfl rfl rfl rfl, ⟨p0, sk.2⟩, ⟨h708, w2, rfl⟩, ⟨rfl, w3, rfl⟩, ⟨t2, t3⟩, ⟨rfl, rfl⟩, rfl⟩
  have Xτ : TXx n t (md_pi τ 709 (LN t p)) := TXx_fr X (mf_pi (P := fTx) (mf_tr (mf_pi mf_rfl rfl) (mf_mono t4 (fun k hk => by
    simp only [fTx, List.contains_cons, List.contains_nil, Bool.or_eq_false_iff, beq_eq_false_iff_ne] at hk ⊢
    (repeat' (first | exact trivial | omega | apply And.intro))))) rfl) rfl rfl rfl
  have Yυ : TXm n t (md_pi (md_pi υ 61 p) 63 (LN t p)) := TXm_fr Y1 (mf_pi (P := fTm) (mf_pi (mf_mono w4 (fun k hk => by
    simp only [fTm, List.contains_cons, List.contains_nil, Bool.or_eq_false_iff, beq_eq_false_iff_ne] at hk ⊢
    (repeat' (first | exact trivial | omega | apply And.intro)))) rfl) rfl) rfl rfl
  have p1 : 0 ≤ p + 1 ∧ 0 ≤ p + 2 := by
    have n1 := T.1.2
    have p2 := sk.2
    clear T X Y B bs bm t1 t4 u1 u4 w1 w4 Y1 f0 g0 hTB Xτ Yυ
    exact ⟨by lia, by lia⟩
  have ahd1 : ∀ k : Int32, (k = 34 ↔ t p = 125) → mm_endsTable N μ = some (b01 (decide (k = 34)), μ) := fun k hk => by
    rw [mm_endsTable, show μ.1 62 = e from h62, bm μ Y]
    simp only [bd]
    rw [sg_t T Y p0]
    simp only
    by_cases c : t p = 125
    · rw [if_pos c, decide_eq_true (hk.mpr c)]; rfl
    · rw [if_neg c, decide_eq_false (fun q => c (hk.mp q))]; rfl
  have ahd2 : ∀ k : Int32, (k = 42 ↔ t p = 46 ∧ t (p + 1) = 46 ∧ t (p + 2) = 46) → mm_isBeforeRest N μ = some (b01 (decide (k = 42)), μ) := fun k hk => by
    rw [mm_isBeforeRest, show μ.1 62 = e from h62, bm μ Y]
    simp only [bd]
    rw [sg_t T Y p0]
    simp only
    by_cases c : t p = 46
    · rw [if_pos c, sg_t T Y p1.1]
      simp only
      by_cases d : t (p + 1) = 46
      · rw [if_pos d, sg_t T Y p1.2]
        simp only
        by_cases d2 : t (p + 2) = 46
        · rw [if_pos d2, decide_eq_true (hk.mpr ⟨c, d, d2⟩)]; rfl
        · rw [if_neg d2, decide_eq_false (fun q => d2 (hk.mp q).2.2)]; rfl
      · rw [if_neg d, decide_eq_false (fun q => d (hk.mp q).2.1)]; rfl
    · rw [if_neg c, decide_eq_false (fun q => c (hk.mp q).1)]; rfl
  have go : ∀ Z W, NX2 n t p (md_pi (md_pi τ 709 (LN t p)) 713 (p + 1)) (md_pi (md_pi (md_pi (md_pi υ 61 p) 63 (LN t p)) 60 1) 62 (p + 1)) Z W → ∃ σ' μ' p, Z = some σ' ∧ W = some μ' ∧ e ≤ p ∧ TkH n t p (sF σ' 713) σ' μ' ∧ (mm_endsTable N μ = some (b01 (decide (sF σ' 707 = 34)), μ) ∧ mm_isBeforeRest N μ = some (b01 (decide (sF σ' 707 = 42)), μ)) ∧ m_fr fTx σ σ' ∧ m_fr fTm μ μ' := fun Z W q => by
    obtain ⟨σ', μ', q1, q2, q3, q4, q5⟩ := q
    exact ⟨σ', μ', p, q1, q2, sk.1, q3, ⟨ahd1 _ q3.2.2.2.2.2.2.2.2.1, ahd2 _ q3.2.2.2.2.2.2.2.2.2.1⟩, mf_tr f0 (fK_T q4), mf_tr g0 (fK_Tm q5)⟩
  have hx : xx11_next N σ = (if 0 ≤ t p then bd (xx0_isLetter N (md_pi (md_pi τ 709 (LN t p)) 713 (p + 1)) (t p)) (fun z10 => (if z10.1 = 0 then bd (xx0_isDigit N z10.2 (t p)) (fun z11 => (if z11.1 = 0 then (if t p = 34 then xx11_next_b103 N (t p) z11.2 else (if t p = 39 then xx11_next_b103 N (t p) z11.2 else bd (xx11_bracket N z11.2 (sF z11.2 708) (91)) (fun z12 => (if z12.1 < 0 then xx11_next_b161 N (t p) z12.2 else bd (xx11_bracket N z12.2 ((z12.2.1 708)) (91)) (fun z13 => bd (xx11_longString N z13.2 z13.1) (fun z14 => (if z14.1 = 0 then xx11_next_b161 N (t p) z14.2 else lt (md_pi z14.2 707 (4)) (fun σ15 : mS => xx11_next_b166 N σ15)))))))) else bd (xx11_number N z11.2 ) (fun z16 => xx11_next_b166 N z16))) else bd (xx11_word N z10.2 ) (fun z17 => xx11_next_b166 N z17))) else lt (md_pi (md_pi (md_pi τ 709 (LN t p)) 713 (p + 1)) 707 (0)) (fun σ18 : mS => lt (md_pi σ18 713 ((σ18.1 708))) (fun σ19 : mS => xx11_next_b166 N σ19))) := by
    rw [xx11_next, show σ.1 713 = e from h713, bs]
    simp only [bd, lt]
    rw [show (md_pi σ 708 p).1 708 = p from rfl, xx11_lineOf, t1]
    simp only
    rw [show (md_pi τ 709 (LN t p)).1 708 = p from h708, at_t T Xτ p0]
    simp only
    rw [show (md_pi τ 709 (LN t p)).1 708 = p from h708]
    rfl
  have hm : mm_next N μ = (if 0 ≤ t p then bd (mm_isLetter N (md_pi (md_pi (md_pi (md_pi υ 61 p) 63 (LN t p)) 60 1) 62 (p + 1)) (t p)) (fun z13 => (if z13.1 = 0 then bd (mm_isDigit N z13.2 (t p)) (fun z14 => (if z14.1 = 0 then (if t p = 34 then mm_next_120 N (t p) z14.2 else (if t p = 39 then mm_next_120 N (t p) z14.2 else (if t p = 91 then bd (mm_readLong N z14.2 ) (fun z15 => (if z15.1 = 0 then mm_next_141 N (t p) z15.2 else mm_next_166 N z15.2)) else mm_next_141 N (t p) z14.2))) else bd (mm_readDigits N z14.2 ) (fun z16 => mm_next_166 N z16))) else bd (mm_readWord N z13.2 ) (fun z17 => mm_next_166 N z17))) else lt (md_pi (md_pi (md_pi (md_pi (md_pi υ 61 p) 63 (LN t p)) 60 1) 62 (p + 1)) 60 (0)) (fun σ18 : mS => lt (md_pi σ18 62 ((σ18.1 58))) (fun σ19 : mS => mm_next_166 N σ19))) := by
    rw [mm_next, show μ.1 62 = e from h62, mm_step, u1]
    simp only [bd, lt]
    rw [show υ1.1 58 = e from u2, bm υ1 Y1]
    simp only
    rw [mm_step, w1]
    simp only
    rw [show υ.1 58 = p from w2, show (md_pi υ 61 p).1 59 = LN t p from w3, show (md_pi (md_pi υ 61 p) 63 (LN t p)).1 58 = p from w2, sg_t T Yυ p0]
    simp only
    rw [show (md_pi (md_pi (md_pi υ 61 p) 63 (LN t p)) 60 1).1 58 = p from w2]
  rw [hx, hm]
  refine go _ _ ?_
  have t0 := TX_0 T p0
  by_cases c : 0 ≤ t p
  · have pn := t0.1.mp c
    rw [if_pos c, if_pos c, lt_t, lt_m]
    simp only [bd]
    by_cases c1 : isLt (t p) = true
    · rw [if_neg (fun q => b01_0.mp q c1), if_neg (fun q => b01_0.mp q c1)]
      exact nx_word hN hTB pn c1
    · rw [if_pos (b01_0.mpr c1), if_pos (b01_0.mpr c1), dg_t, dgt_m]
      simp only
      by_cases c2 : isDg (t p) = true
      · rw [if_neg (fun q => b01_0.mp q c2), if_neg (fun q => b01_0.mp q c2)]
        exact nx_num hN hTB c2
      · rw [if_pos (b01_0.mpr c2), if_pos (b01_0.mpr c2)]
        by_cases c3 : t p = 34
        · rw [if_pos c3, if_pos c3]
          exact nx_quoted hN hTB pn c (by rw [c3]; decide) (by rw [c3]; decide)
        · rw [if_neg c3, if_neg c3]
          by_cases c4 : t p = 39
          · rw [if_pos c4, if_pos c4]
            exact nx_quoted hN hTB pn c (by rw [c4]; decide) (by rw [c4]; decide)
          · rw [if_neg c4, if_neg c4]
            exact nx_long hN hTB pn rfl
  · rw [if_neg c, if_neg c]
    simp only [lt]
    rw [show (md_pi (md_pi (md_pi τ 709 (LN t p)) 713 (p + 1)) 707 0).1 708 = p from h708, show (md_pi (md_pi (md_pi (md_pi (md_pi υ 61 p) 63 (LN t p)) 60 1) 62 (p + 1)) 60 0).1 58 = p from w2]
    have f' : m_fr fKx (md_pi (md_pi τ 709 (LN t p)) 713 (p + 1)) (md_pi (md_pi (md_pi (md_pi τ 709 (LN t p)) 713 (p + 1)) 707 0) 713 p) := mf_pi (mf_pi mf_rfl rfl) rfl
    have g' : m_fr fKm (md_pi (md_pi (md_pi (md_pi υ 61 p) 63 (LN t p)) 60 1) 62 (p + 1)) (md_pi (md_pi (md_pi (md_pi (md_pi (md_pi υ 61 p) 63 (LN t p)) 60 1) 62 (p + 1)) 60 0) 62 p) := mf_pi (mf_pi mf_rfl rfl) rfl
    exact ⟨_, _, rfl, rfl, TB_TK (σ' := md_pi (md_pi (md_pi (md_pi τ 709 (LN t p)) 713 (p + 1)) 707 0) 713 p) hTB f' g' rfl ⟨Int32.le_refl _, sk.2⟩ rfl (.inl ⟨rfl, rfl, t0.2 (fun q => c (t0.1.mpr q))⟩) (by rw [K3, t0.2 (fun q => c (t0.1.mpr q))]; exact ⟨⟨fun q => absurd (show (0 : Int32) = 34 from q) (by decide), fun q => absurd q (by decide)⟩, ⟨fun q => absurd (show (0 : Int32) = 42 from q) (by decide), fun q => absurd q.1 (by decide)⟩, (show (0 : Int32) ≠ 28 by decide), (show (0 : Int32) ≠ 29 by decide)⟩), f', g'⟩
/-- what is looked at ahead -/
theorem ahead_2 {N : Nat} (hN : BIG ≤ N) {n e : Int32} {t : Int32 → Int32} {σ μ : mS} (h : TkP n t e σ μ) : ∃ r, (r = 0 ∨ r = 1) ∧ xx11_isSetNext N σ = some (r, σ) ∧ mm_isBeforeGiven N μ = some (r, μ) := by
  obtain ⟨E, e0, ⟨h713, h62⟩, _⟩ := h
  obtain ⟨T, X, Y, B⟩ := E
  have sk := skF_r T N e e0.1 e0.2
  have bs := blanks_t hN T X e0.1 e0.2
  have bm := behind_m hN T Y e0.1 e0.2
  generalize skF n t N e = p at sk bs bm
  have p0 : 0 ≤ p := Int32.le_trans e0.1 sk.1
  have p1 : 0 ≤ p + 1 := by
    have n1 := T.1.2
    clear T X Y B bs bm
    lia
  rw [xx11_isSetNext, mm_isBeforeGiven, show σ.1 713 = e from h713, show μ.1 62 = e from h62, bs, bm]
  simp only [bd]
  rw [at_t T X p0, sg_t T Y p0]
  simp only
  by_cases c : t p = 61
  · rw [if_pos c, if_pos c, at_t T X p1, sg_t T Y p1]
    simp only
    by_cases d : t (p + 1) = 61
    · rw [if_pos d, if_pos d]
      exact ⟨0, .inl rfl, rfl, rfl⟩
    · rw [if_neg d, if_neg d]
      exact ⟨1, .inr rfl, rfl, rfl⟩
  · rw [if_neg c, if_neg c]
    exact ⟨0, .inl rfl, rfl, rfl⟩
