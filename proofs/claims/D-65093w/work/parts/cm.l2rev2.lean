/-! LAYER 2: functions of the house: string.reverse, whole -/
theorem b_32 {x : Int32} : x &&& 255 &&& 255 = x &&& 255 := b_255x
theorem rev_m {N : Nat} {l : List Int32} (len : l.length ≤ 4000) : ∀ (c i n : Nat) (μ : mS), i + c = l.length → c < n → sF μ 224 = Int32.ofNat l.length → hasL (μ.2.2.1 223) 0 l → bufL μ (l.reverse.take i) → ∃ τ, mm_ofStrings_296 N n 22 (Int32.ofNat i) μ = bd (mm_giveMade N τ) (fun z4 => mm_ofStrings_397 N z4) ∧ bufL τ l.reverse ∧ m_fr bK μ τ := by
  intro c
  induction c with
  | zero =>
    intro i n μ hi hn h224 h1 h2
    obtain ⟨n, rfl⟩ : ∃ j, n = j + 1 := ⟨n - 1, by omega⟩
    have e : i = l.length := by omega
    subst e
    refine ⟨μ, ?_, ?_, mf_rfl⟩
    · rw [mm_ofStrings_296, sF_fold, h224, if_pos (Int32.le_refl _)]
    · rw [← List.length_reverse, List.take_length] at h2; exact h2
  | succ c ih =>
    intro i n μ hi hn h224 h1 h2
    obtain ⟨n, rfl⟩ : ∃ j, n = j + 1 := ⟨n - 1, by omega⟩
    have lk : (l.reverse.take i).length = i := by rw [List.length_take, List.length_reverse]; omega
    have e1 : μ.2.2.1 223 (l.length - 1 - i) &&& 255 = l.getD (l.length - 1 - i) 0 := by have := h1 (l.length - 1 - i) (by omega); rw [Nat.zero_add] at this; exact this
    obtain ⟨y, s1, s2, s3⟩ := put_m (N := N) (b := μ.2.2.1 223 (l.length - 1 - i) &&& 255) h2 (by rw [lk]; omega)
    rw [b_32, e1, ← rev_t (by omega)] at s2
    obtain ⟨τ, r1, r2, r3⟩ := ih (i + 1) n y (by omega) (by omega) (by rw [mf_F s3 rfl]; exact h224) (by rw [s3.2.2.1 223 rfl]; exact h1) s2
    refine ⟨τ, ?_, r2, mf_tr s3 r3⟩
    have nle : ¬ Int32.ofNat l.length ≤ Int32.ofNat i := fun q => by rw [oN_le (by omega) (by omega)] at q; omega
    rw [mm_ofStrings_296, sF_fold, h224, if_neg nle, if_pos rfl, on_2 (by omega), mm_ofStrings_326, gd_oN (by omega) (by decide), oN_cl (by omega), lt, if_neg (show ¬ (22 : Int32) = 23 by decide), mm_ofStrings_358, if_neg (show ¬ (22 : Int32) = 24 by decide), mm_ofStrings_383, mm_ofStrings_384, s1, bd_so, lt, oN_s]
    exact r1
theorem texts_22 {N : Nat} {z : mS} : xx8_texts N z 22 = bx (xx8_text N z 1 520) (fun z11 => xx8_texts_b109 N N z11.1 0 z11.2) := rfl
theorem ofs_22 {N : Nat} {z : mS} : mm_ofStrings N z 22 = bd (mm_isText N z 1 22) (fun z12 => bd (mm_unless N z12.2 z12.1) (fun z13 => if sF z13 227 = 0 then bd (mm_read N z13 1) (fun z29 => lt (md_pi z29 17 0) (fun σ30 => mm_ofStrings_296 N N 22 0 σ30)) else some z13)) := rfl
theorem lib_reverse {L : LQ} (E : EVok (lE L)) {w : WD} {σ μ : mS} (H : LC L w 0 σ μ) (hl : lB L = 22) : LO L w (xx8_texts (lNn L) σ 22) (mm_ofStrings (lNn L) μ 22) := by
  have hl' : (22 : Int32) = Int32.ofNat (lB L) := by rw [hl]; rfl
  have big : 5000 < lNn L := by
    have := EV_N E
    simp only [BIG] at this
    show 5000 < eN (lE L)
    omega
  rw [texts_22, ofs_22]
  refine (isText_L E H (i := 1) (v := 520) (by decide) (by decide) hl' (fun z => ⟨md_pi z 227 1, ?_, u227⟩)).elim (fun ⟨a1, a2, a3, a4⟩ => ?_) (fun o => .inr o)
  · simp only [unless_0, bd_so, bx_so, bd_bd, lt, gd_z1, gd_z0, sF_fold, sF_pi, if_true, i10, if_false, ite_true, ite_false]
  obtain ⟨l, τ, τm, len, x1, x2, x3, x4, x5, x6, H1⟩ := text_arg E H (i := 1) (by decide) (by decide) a1 (v := 520) (u := 223) (by omega) (.inl rfl)
  have H2 : LC L w 0 τ (md_pi (md_pi τm 224 (Int32.ofNat l.length)) 17 0) := LC_u H1 mf_rfl (mf_pi (mf_pi mf_rfl rfl) rfl)
  obtain ⟨τ', r1, r2, r3⟩ := rev_x (N := lNn L) len l.length 0 (lNn L) τ (by omega) (by omega) x3 (by rw [List.take_zero]; exact hasL_nil)
  obtain ⟨y, s1, s2, s3⟩ := rev_m (N := lNn L) len l.length 0 (lNn L) (md_pi (md_pi τm 224 (Int32.ofNat l.length)) 17 0) (by omega) (by omega) (by simp only [sF_pi, sF_pl, sF_ai, sF_al, sG_pi, sG_pl, sG_ai, sG_al, sI_pi, sI_pl, sI_al, sI_ai1, sI_ai2, sJ_pi, sJ_pl, sJ_ai, sJ_al1, sJ_al2, Nat.reduceEqDiff, if_true, if_false, ne_eq, not_false_eq_true, ite_true, ite_false]) x4 (by rw [List.take_zero]; exact bufL_0)
  have r1' : xx8_texts_b109 (lNn L) (lNn L) (Int32.ofNat l.length) 0 τ = bx (xx8_giveBytes (lNn L) τ' 521 0 (Int32.ofNat l.length)) (fun z1 => xx8_texts_b186 (lNn L) z1) := r1
  have s1' : mm_ofStrings_296 (lNn L) (lNn L) 22 0 (md_pi (md_pi τm 224 (Int32.ofNat l.length)) 17 0) = bd (mm_giveMade (lNn L) y) (fun z4 => mm_ofStrings_397 (lNn L) z4) := s1
  rw [a3 _ _ x1, a4, bx_so, bd_so]
  dsimp only
  rw [unless_1 (L_227 H), bd_so]
  simp only [L_227 H, if_true]
  rw [read_m x2, bd_so, lt, r1', s1']
  have u2 : m_fr uX τ τ' := mf_mono r3 (fun k hk => by
    simp only [beq_eq_false_iff_ne]
    rintro rfl
    exact absurd hk (by decide))
  have := bytes_L E (LC_u H2 u2 (bK_u s3)) (by decide) (p := 0) (l := l.reverse) vB_521 (by decide) (fun _ => ⟨by rw [List.length_reverse]; omega, r2⟩) s2 (by rw [List.length_reverse]; omega)
  rw [List.length_reverse] at this
  exact LO_end this (fun z => rfl) (fun z => rfl)
