/-! LAYER 2: strings made by functions of the house; tostring -/
theorem sK_t {k : Nat} (h : k < 128 ∨ 191 < k ∨ k = 142) : sK k = false := by
  simp only [sK, Bool.and_eq_false_iff, beq_eq_false_iff_ne, bne_eq_false_iff_eq]
  omega
theorem sN_t {k : Nat} (h : k < 2 ∨ 15 < k) : sN k = false := by
  simp only [sN, List.contains_cons, List.contains_nil, Bool.or_eq_false_iff, beq_eq_false_iff_ne]
  repeat' apply And.intro
  all_goals first | trivial | omega
theorem bb_L {σ μ : mS} {v p M : Nat} {l : List Int32} (hL : hasL (σ.2.2.1 v) p l) (hb : bufL μ l) (len : l.length ≤ 4400) (hM : p + l.length ≤ M) (hM2 : M < 2147483648) : ∀ k, 0 ≤ k → k < Int32.ofNat l.length → sI σ v (Int32.ofNat p + k) &&& 255 = sI μ 16 k &&& 255 := fun k k0 k1 => by
  have kl : k.toNatClampNeg < l.length := by
    rw [tI_lt, tI_lit (by omega)] at k1
    rw [tI_le] at k0
    have z : (0 : Int32).toInt = 0 := rfl
    rw [tI_cl]; omega
  have e0 : Int32.ofNat p + k = Int32.ofNat (p + k.toNatClampNeg) := by
    rw [← oN_add, oN_cl' k0]
  rw [e0]
  have a1 := hL k.toNatClampNeg kl
  have a2 := hb.2 k.toNatClampNeg (by rw [List.length_take]; omega)
  rw [List.take_of_length_le (by omega), Nat.zero_add] at a2
  simp only [sI]
  rw [oN_cl (by omega), a1, a2]
theorem string_L {α : Type} {L : LQ} (E : EVok (lE L)) {w : WD} {g : Int32} {σ μ : mS} (H : LC L w g σ μ) {v p M : Nat} {l : List Int32} (hv : vB v M) (hne : v ≠ 128 ∧ v ≠ 129 ∧ v ≠ 131 ∧ v ≠ 136) (hM : p + l.length ≤ M) (hL : hasL (σ.2.2.1 v) p l) (hb : bufL μ l) (len : l.length ≤ 4000) {f : Int32 × mS → Option (Except (Nat × mS) α)} {k' : Int32 × mS → Option mS} (hk : ∀ z, sF z 178 ≠ 0 → ∃ z', k' (-1, z) = some z' ∧ m_fr tK z z') : (∃ a b τ τm, xx2_make (lNn L) σ v (Int32.ofNat p) (Int32.ofNat l.length) = some (.ok (a, τ)) ∧ mm_makeString (lNn L) μ = some (b, τm) ∧ 0 ≤ b ∧ VV (wAddS w a b) 4 (Int32.toInt64 a) 3 (Int32.toInt64 b) ∧ LC L (wAddS w a b) g τ τm ∧ m_fr sK σ τ ∧ m_fr sN μ τm) ∨ OEL (α := α) L w (bx (xx2_make (lNn L) σ v (Int32.ofNat p) (Int32.ofNat l.length)) f) (bd (mm_makeString (lNn L) μ) k') := by
  have M1 := hv.2.2
  have n4 : Int32.ofNat l.length ≤ 4000 := by
    rw [show (4000 : Int32) = Int32.ofNat 4000 from rfl, oN_le (by omega) (by omega)]; exact len
  have n0 := oN_nn (show l.length < 2147483648 by omega)
  have p0 := oN_nn (show p < 2147483648 by omega)
  rcases make_h (N := eN (lE L)) (EV_N E) H.1.1.1.1.1 (vB_ba hv) hne p0 n0 (by lia) (by rw [oN_add, oN_le (by omega) (by omega)]; omega) (by
    rw [oN_add, oN_le (by omega) (by omega)]; omega) hb.1 (bb_L hL hb (by omega) hM (by omega)) with ⟨o1, o2⟩ | ⟨a, b, τ, τm, o1, o2, r3, a0, b0, r4, r5, r6, r7, r8⟩
  · refine .inr (.inr ⟨w, σ, μ, 1101, 3, .inl ⟨rfl, rfl⟩, ?_, fun μ' hm => ?_, H.1.1⟩)
    · show bx (xx2_make (eN (lE L)) σ v (Int32.ofNat p) (Int32.ofNat l.length)) f = _
      rw [o1]; rfl
    · have o3 := o_breakOff hm
      obtain ⟨z', z1, z2⟩ := hk μ' o3
      refine ⟨z', ?_, z2, by rw [tK_178 z2]; exact o3⟩
      show bd (mm_makeString (eN (lE L)) μ) k' = _
      have hm' : mm_breakOff (eN (lE L)) μ 3 = some μ' := hm
      rw [o2, hm']
      exact z1
  · have wl : wle w (wAddS w a b) := wAddS_le
    have M2 := ME_make H.1.1.1 r3 r4 r5 r7 n4 r8
    have V : SV (lE L) (wAddS w a b) τ τm := SV_fr H.1.1.2.1 wl r4 r5 (fun k hk => by
      refine sK_t ?_
      rcases hk with hk | hk
      · have := xR_f hk; omega
      · omega) (fun k hk => by
      refine sN_t ?_
      rcases hk with hk | hk
      · have := @mR_t k
        by_cases c : 2 ≤ k ∧ k ≤ 57
        · rw [this (.inl c)] at hk; exact absurd hk (by decide)
        · omega
      · omega)
    have C := CL_fr H.1.1 M2 V wl (cds_fr r4 (sK_t (by omega)) (sK_t (by omega)) (sK_t (by omega))) r4 r5 (fun k hk => by simp only [kX] at hk; exact sK_t (by omega)) (fun k hk => by simp only [kM] at hk; exact sN_t (by omega))
    exact .inl ⟨a, b, τ, τm, o1, o2, b0, r6, LC_fr H ⟨C, by rw [mf_F r4 (sK_t (by omega))]; exact H.1.2.1, by rw [mf_F r5 (sN_t (by omega))]; exact H.1.2.2⟩ wl r4 r5 (fun k hk => sK_t (by omega)) (fun k hk => sN_t (by omega)), r4, r5⟩
theorem tx_109' : xtx 109 = mtx 30 := by decide +kernel
/-- bytes are given -/
theorem bytes_L {L : LQ} (E : EVok (lE L)) {w : WD} {g : Int32} {σ μ : mS} (H : LC L w g σ μ) (g1 : g < 100) {v p M : Nat} {l : List Int32} (hv : vB v M) (hne : v ≠ 128 ∧ v ≠ 129 ∧ v ≠ 131 ∧ v ≠ 136) (hL : l.length ≤ 4000 → p + l.length ≤ M ∧ hasL (σ.2.2.1 v) p l) (hb : bufL μ l) (hl : l.length < 2147483648) : LO L w (xx8_giveBytes (lNn L) σ v (Int32.ofNat p) (Int32.ofNat l.length)) (mm_giveMade (lNn L) μ) := by
  have c4 : Int32.ofNat l.length ≤ 4000 ↔ l.length ≤ 4000 := by
    rw [show (4000 : Int32) = Int32.ofNat 4000 from rfl, oN_le (by omega) (by omega)]
  rw [xx8_giveBytes, mm_giveMade]
  simp only [sF_fold]
  rw [hb.1]
  by_cases c : l.length ≤ 4000
  · rw [if_pos (c4.mpr c), if_pos (c4.mpr c)]
    obtain ⟨hM, hL⟩ := hL c
    refine (string_L E H hv hne hM hL hb c (fun z hz => ⟨md_pi z 227 1, ?_, f227_tK (mf_pi mf_rfl rfl)⟩)).elim (fun ⟨a, b, τ, τm, o1, o2, b0, vv, H1, _⟩ => ?_) (fun o => .inr o)
    · exact (if_neg (show ¬ (0 : Int32) ≤ -1 by decide)).trans (by rw [gd_z1]; rfl)
    · obtain ⟨τ', τm', b1, b2, b3, _⟩ := give_L (N := lNn L) H1 g1 vv
      rw [o1, o2, bx_so, bd_so]
      dsimp only
      rw [if_pos b0, b1, b2, bx_so, bd_so]
      exact .inl ⟨_, _, _, _, rfl, rfl, wAddS_le, b3⟩
  · rw [if_neg (fun q => c (c4.mp q)), if_neg (fun q => c (c4.mp q))]
    exact .inr (fault_Lk E H.1 (t := 109) (tm := 30) (by decide) (by decide) tx_109' (by decide +kernel) (fun z => ⟨md_pi z 227 1, by rw [gd_z1]; rfl, u227⟩))
theorem xw_u {v p n : Nat} {σ τ : mS} (h : xw v p n σ τ) (hv : v = 407 ∨ v = 520 ∨ v = 521 ∨ v = 522) : m_fr uX σ τ := mf_mono h.1 (fun k hk => by
  have : k ≠ 407 ∧ (k < 520 ∨ 522 < k) ∧ (k < 538 ∨ 540 < k) ∨ k ≠ v := by
    by_cases q : k = v
    · subst q
      exfalso
      rcases hv with rfl | rfl | rfl | rfl <;> exact absurd hk (by decide)
    · exact .inr q
  rcases this with q | q
  · simp only [beq_eq_false_iff_ne]
    rintro rfl
    rcases hv with rfl | rfl | rfl | rfl <;> omega
  · simp only [beq_eq_false_iff_ne]; exact q)
theorem bK_u {μ τ : mS} (h : m_fr bK μ τ) : m_fr uM μ τ := mf_mono h (fun k hk => by
  refine bK_f ?_
  constructor <;> (rintro rfl; exact absurd hk (by decide)))
theorem base_2 {N : Nat} {z : mS} : mm_base N z 2 = bd (mm_isThere N z 1 2) (fun z20 => bd (mm_unless N z20.2 z20.1) (fun z21 => if sF z21 227 = 0 then bd (mm_typeOf N z21 1) (fun z22 => if z22.1 = 3 then bd (mm_valueOf N z22.2 1) (fun z23 => bd (mm_giveValue N z23.2 3 z23.1) (fun z24 => mm_base_465 N z24)) else mm_base_166 N z22.2) else mm_base_166 N z21)) := rfl
theorem plain_2 {N : Nat} {z : mS} : xx8_plain N z 2 = bx (xx8_any N z 1) (fun z14 => bx (xx8_toText N z14) (fun z15 => xx8_plain_b465 N z15)) := rfl
theorem vB_520' : ∃ M, vB 520 M ∧ 4200 ≤ M := by
  obtain ⟨M, h1, h2, _⟩ := tV_B (v := 520) rfl
  exact ⟨M, h1, h2⟩
theorem lib_tostring {L : LQ} (E : EVok (lE L)) {w : WD} {σ μ : mS} (H : LC L w 0 σ μ) (hl : lB L = 2) : LO L w (xx8_plain (lNn L) σ 2) (mm_base (lNn L) μ 2) := by
  have hl' : (2 : Int32) = Int32.ofNat (lB L) := by rw [hl]; rfl
  rw [plain_2, base_2]
  refine (any_L E H (i := 1) hl' (fun z => ⟨md_pi z 227 1, ?_, u227⟩)).elim (fun ⟨n1, a1, a2⟩ => ?_) (fun o => .inr o)
  · simp only [unless_0, bd_so, bx_so, bd_bd, lt, gd_z1, gd_z0, sF_fold, sF_pi, if_true, i10, if_false, ite_true, ite_false, mm_base_166, mm_base_465]
  have tl := tag_L (N := lNn L) H (i := 1) (by decide)
  have tm := tag_M (N := lNn L) H (i := 1) (by decide) (by decide)
  have t := VV_t (arg_V H (i := 1) (by decide))
  have va := arg_V' H (i := 1) (by decide) (by lia)
  rw [a1, a2, bx_so, bd_so]
  dsimp only
  rw [unless_1 (L_227 H), bd_so]
  simp only [L_227 H, if_true]
  rw [tm.1, bd_so, xx8_toText, tl.1, bd_so]
  dsimp only
  by_cases c : aT σ 1 = 4
  · have c' : bT μ 1 = 3 := t.2.2.1.mp c
    rw [c, c'] at va
    obtain ⟨τ, τm, b1, b2, b3, _⟩ := give_L (N := lNn L) H (by decide) va
    rw [if_pos c, if_pos c', tl.2, tm.2, bd_so, bd_so]
    dsimp only
    rw [xx8_give, b1, b2, bx_so, bx_so, bd_so, xx8_toText_b50, bx_so, xx8_plain_b465, mm_base_465]
    exact LO_ok b3
  · have H1 : LC L w 0 σ (md_pi μ 17 0) := LC_u H mf_rfl (mf_pi mf_rfl rfl)
    have tm1 := tag_M (N := lNn L) H1 (i := 1) (by decide) (by decide)
    have va1 := arg_V' H1 (i := 1) (by decide) (by lia)
    have T := LC_TS H1.1
    obtain ⟨l, x1, x2⟩ := VV_ex T va1
    obtain ⟨M, m1, m2⟩ := vB_520'
    obtain ⟨τ, y1, y2, y3⟩ := textOf_x (N := lNn L) (EV_N E) T va1 (v := 520) (p := 0) rfl m1 x1 (by omega)
    obtain ⟨τm, z1, z2, z3⟩ := putValue_m (N := lNn L) (EV_N E) T va1 x1 bufL_0 (by decide)
    have H2 := LC_u H1 (xw_u y3 (by omega)) (bK_u z3)
    have y1' : xx8_textOf (lNn L) σ (aT σ 1) (aV σ 1) 520 0 = some (Int32.ofNat (0 + l.length), τ) := y1
    rw [if_neg c, if_neg (fun q => c (t.2.2.1.mpr q)), mm_base_166]
    simp only [sF_fold, L_227 H, if_true, lt]
    rw [tl.1, tm1.1, bd_so, bd_so]
    dsimp only
    rw [tl.2, tm1.2, bd_so, bd_so]
    dsimp only
    rw [y1', z1, bd_so, bd_so]
    dsimp only
    rw [Nat.zero_add]
    rw [bx_bx]
    exact LO_end (bytes_L E H2 (by decide) (p := 0) m1 (by decide) (fun h => ⟨by omega, y2⟩) z2 (by omega)) (fun z => rfl) (fun z => rfl)
