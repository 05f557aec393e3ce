/-! LAYER 2: functions of the house: a text is read into a row -/
def vR (v : Nat) : Prop := v = 223 ∨ v = 225
theorem vR_b {v : Nat} (h : vR v) : bB v = true ∧ md_ln v = 4004 := by
  rcases h with rfl | rfl <;> exact ⟨by decide +kernel, by decide +kernel⟩
theorem vR_u {v : Nat} (h : vR v) {μ τ : mS} (fr : m_fr (fun k => k == v) μ τ) : m_fr uM μ τ := mf_mono fr (fun k hk => by
  simp only [beq_eq_false_iff_ne]
  rintro rfl
  rcases h with rfl | rfl <;> exact absurd hk (by decide))
theorem nar8 {b : Int32} : (Int32.toInt8 b).toInt32 &&& 255 = b &&& 255 := b_mask (v := b)
theorem wr_m {μ : mS} {v : Nat} {l : List Int32} {b : Int32} (hv : vR v) (hl : hasL (μ.2.2.1 v) 0 l) (hp : l.length < 4004) : inB (Int32.ofNat l.length) (md_ln v) = true ∧ hasL ((md_ai μ v l.length (vp_nar .byte b)).2.2.1 v) 0 (l ++ [b &&& 255]) ∧ m_fr (fun k => k == v) μ (md_ai μ v l.length (vp_nar .byte b)) := by
  have x1 : xw v (0 + l.length) 1 μ (md_ai μ v l.length (vp_nar .byte b)) := xw_ai (by omega)
  refine ⟨tI_in (by rw [tI_lit (by omega)]; omega) (by rw [tI_lit (by omega), (vR_b hv).2]; omega), hasL_app.mpr ⟨hasL_xw hl x1 (by omega), hasL_one ?_⟩, x1.1⟩
  rw [ai_I, if_pos rfl, upd_at, if_pos (by omega), b_mask]
theorem sm_v {v : Nat} {μ τ : mS} {h : Int32} (hv : vR v) (w3 : m_fr (fun k => k == v) μ τ) : m_sm μ τ h := by
  have nv : ∀ j, j < 20 → (fun k => k == v) j = false := fun j hj => by
    simp only [beq_eq_false_iff_ne]
    rintro rfl
    rcases hv with q | q <;> omega
  exact ⟨mf_I w3 (nv 2 (by omega)), mf_I w3 (nv 3 (by omega)), mf_I w3 (nv 4 (by omega)), fun j _ _ => by simp only [m_by]; rw [mf_I w3 (nv 7 (by omega)), mf_I w3 (nv 10 (by omega)), mf_I w3 (nv 2 (by omega))]⟩
theorem take_1 {l : List Int32} {k : Nat} (h : k < l.length) : l.take (k + 1) = l.take k ++ [l.getD k 0] := by
  rw [List.take_succ]
  congr 1
  rw [List.getElem?_eq_getElem h, List.getD_eq_getElem?_getD, List.getElem?_eq_getElem h]
  rfl
theorem by19 {N v : Nat} {h : Int32} (hv : vR v) (r0 : 0 ≤ h) (r1 : h < 42000) : ∀ (n k : Nat) (μ : mS), m_sv μ h → k ≤ (mL μ h).length → (mL μ h).length - k < n → (mL μ h).length ≤ 4000 → hasL (μ.2.2.1 v) 0 ((mL μ h).take k) → ∃ τ, mm_bytesOf_19 N n v h (Int32.ofNat k) μ = some (Int32.ofNat (mL μ h).length, τ) ∧ hasL (τ.2.2.1 v) 0 (mL μ h) ∧ m_fr (fun k => k == v) μ τ := by
  intro n
  induction n with
  | zero => intro k μ _ _ h; omega
  | succ n ih =>
    intro k μ hs hk hn h4 hb
    have ln : (mL μ h).length = (m_sz μ h).toNatClampNeg := bL_len
    have s0 : 0 ≤ m_sz μ h := hs.2.2.2.1
    have s1 : m_sz μ h = Int32.ofNat (mL μ h).length := by rw [ln, oN_cl' s0]
    have s1' : sI μ 3 h = Int32.ofNat (mL μ h).length := s1
    rw [mm_bytesOf_19, gd_in (by decide) r0 r1, sI_fold, s1']
    by_cases c : (mL μ h).length = k
    · rw [if_pos (by rw [c]; exact Int32.le_refl _), gd_in (by decide) r0 r1]
      rw [← c, List.take_length] at hb
      exact ⟨μ, rfl, hb, mf_rfl⟩
    · rw [if_neg (fun q => by rw [oN_le (by omega) (by omega)] at q; omega)]
      have kl := cl_lt (k := k) (n := m_sz μ h) (by omega)
      have lk : ((mL μ h).take k).length = k := by rw [List.length_take]; omega
      obtain ⟨w1, w2, w3⟩ := wr_m (b := (Int32.toInt8 (m_by μ h (Int32.ofNat k))).toInt32) hv hb (by rw [lk]; omega)
      rw [lk] at w1 w2 w3
      rw [byteOf_m hs kl.1 kl.2, bd_so]
      dsimp only
      rw [(vR_b hv).1, w1, oN_cl (by omega)]
      have sm := sm_v (h := h) hv w3
      have mLe := msm_L sm
      have ek : (mL μ h).getD k 0 = (Int32.toInt8 (m_by μ h (Int32.ofNat k))).toInt32 &&& 255 := by
        rw [nar8]
        simp only [mL]
        rw [bL_get (by omega), m_by, b_255x]
      obtain ⟨τ, f1, f2, f3⟩ := ih (k + 1) _ (msm_sv sm hs) (by rw [mLe]; omega) (by rw [mLe]; omega) (by rw [mLe]; omega) (by rw [mLe, take_1 (by omega), ek]; exact w2)
      rw [mLe] at f1 f2
      refine ⟨τ, ?_, f2, mf_tr w3 f3⟩
      rw [← oN_s] at f1
      exact f1
theorem by83 {N v : Nat} {l : List Int32} {v3 : Int32} (hv : vR v) (hl : l.length ≤ 4000) : ∀ (n k : Nat) (μ : mS), bufL μ l → k ≤ l.length → l.length - k < n → hasL (μ.2.2.1 v) 0 (l.take k) → ∃ τ, mm_bytesOf_83 N n v v3 (Int32.ofNat l.length) (Int32.ofNat k) μ = some (Int32.ofNat l.length, τ) ∧ hasL (τ.2.2.1 v) 0 l ∧ m_fr uM μ τ := by
  intro n
  induction n with
  | zero => intro k μ _ _ h; omega
  | succ n ih =>
    intro k μ hf hk hn hb
    rw [mm_bytesOf_83]
    by_cases c : l.length = k
    · rw [if_pos (by rw [c]; exact Int32.le_refl _), lt]
      rw [← c, List.take_length] at hb
      exact ⟨md_pi μ 17 v3, rfl, hb, mf_pi mf_rfl rfl⟩
    · rw [if_neg (fun q => by rw [oN_le (by omega) (by omega)] at q; omega)]
      have lk : (l.take k).length = k := by rw [List.length_take]; omega
      obtain ⟨w1, w2, w3⟩ := wr_m (b := μ.2.2.1 16 k) hv hb (by rw [lk]; omega)
      rw [lk] at w1 w2 w3
      have eb : μ.2.2.1 16 k &&& 255 = l.getD k 0 := by
        have := hf.2 k (by rw [List.length_take]; omega)
        rw [Nat.zero_add, List.take_of_length_le (by omega)] at this
        exact this
      have nv : ∀ j, j < 20 → (fun k => k == v) j = false := fun j hj => by
        simp only [beq_eq_false_iff_ne]
        rintro rfl
        rcases hv with q | q <;> omega
      obtain ⟨τ, f1, f2, f3⟩ := ih (k + 1) _ ⟨(mf_F w3 (nv 17 (by omega))).trans hf.1, by rw [w3.2.2.1 16 (nv 16 (by omega))]; exact hf.2⟩ (by omega) (by omega) (by rw [take_1 (by omega), ← eb]; exact w2)
      refine ⟨τ, ?_, f2, mf_tr (vR_u hv w3) f3⟩
      rw [gd_oN (by omega) (by decide), (vR_b hv).1, w1, oN_cl (by omega)]
      rw [← oN_s] at f1
      exact f1
/-- a text argument, on both sides: in row v of the system, in row u of the reference -/
theorem text_arg {L : LQ} (E : EVok (lE L)) {w : WD} {g i : Int32} {σ μ : mS} (H : LC L w g σ μ) (i0 : 1 ≤ i) (i1 : i ≤ 150) (h34 : aT σ i = 3 ∨ aT σ i = 4) {v u : Nat} (hv : v = 407 ∨ v = 520 ∨ v = 521 ∨ v = 522) (hu : vR u) : ∃ l τ τm, l.length ≤ 4000 ∧ xx6_text (lNn L) σ (aT σ i) (aV σ i) v 0 = some (Int32.ofNat l.length, τ) ∧ mm_bytesOf (lNn L) μ i u = some (Int32.ofNat l.length, τm) ∧ hasL (τ.2.2.1 v) 0 l ∧ hasL (τm.2.2.1 u) 0 l ∧ m_fr (fun k => k == v) σ τ ∧ m_fr uM μ τm ∧ LC L w g τ τm := by
  have hN := EV_N E
  have tm := tag_M (N := lNn L) H i0 i1
  have t := VV_t (arg_V H i0)
  have vb : ∃ M, vB v M ∧ 4200 ≤ M ∧ v ≠ 131 ∧ v ≠ 132 ∧ v ≠ 129 := by
    rcases hv with rfl | rfl | rfl | rfl
    · exact ⟨_, vB_407, by decide, by decide, by decide, by decide⟩
    · exact ⟨_, vB_520, by decide, by decide, by decide, by decide⟩
    · exact ⟨_, vB_521, by decide, by decide, by decide, by decide⟩
    · exact ⟨_, vB_522, by decide, by decide, by decide, by decide⟩
  obtain ⟨M, vb, hM, ne⟩ := vb
  have va := arg_V' H i0 (arg_n H (by rcases h34 with q | q <;> rw [q] <;> decide))
  rcases h34 with c | c
  · have c' : bT μ i = 2 := t.2.1.mp c
    rw [c, c'] at va
    have ev : aV σ i = bV μ i := by
      rcases va with q | q | q | q | q | q | q | q | q
      case inr.inr.inr.inl => exact q.2.2
      all_goals (obtain ⟨q, _⟩ := q; exact absurd q (by decide))
    obtain ⟨l, hl⟩ := numT_ex (bV μ i)
    have len := numT_len hl
    obtain ⟨τ, a1, a2, a3⟩ := digits_L (N := lNn L) hN (v := v) (p := 0) (σ := σ) hl vb (by omega)
    rw [Nat.zero_add] at a1
    obtain ⟨y1, b1, b2, b3⟩ := putNumber_m (N := lNn L) hN hl (bufL_0 (μ := μ)) (by simp)
    rw [List.nil_append] at b2
    obtain ⟨τm, d1, d2, d3⟩ := by83 (N := lNn L) (v3 := sF μ 17) hu (by omega) (lNn L) 0 y1 b2 (by omega) (by have := hN; simp only [BIG] at this; show l.length - 0 < eN (lE L); omega) (by rw [List.take_zero]; exact hasL_nil)
    have fm : m_fr uM μ τm := mf_tr (mf_pi mf_rfl rfl) (mf_tr (bK_u b3) d3)
    have tm17 := tag_Mq (N := lNn L) H (show m_fr (fun k => k == 17) μ (md_pi μ 17 0) from mf_pi mf_rfl rfl) rfl rfl rfl rfl i0 i1
    refine ⟨l, τ, τm, by omega, ?_, ?_, a2, d2, a3.1, fm, LC_u H (xw_u a3 hv) fm⟩
    · have a1' : xx6_digits (lNn L) σ (bV μ i) v 0 = some (Int32.ofNat l.length, τ) := a1
      rw [c, ev, xx6_text, if_neg (by decide), a1', bd_so]; rfl
    · have d1' : mm_bytesOf_83 (lNn L) (lNn L) u (sF μ 17) (Int32.ofNat l.length) 0 y1 = some (Int32.ofNat l.length, τm) := d1
      rw [mm_bytesOf, tm.1, bd_so]
      dsimp only
      rw [c', if_neg (by decide), lt, lt, tm17.2, bd_so]
      dsimp only
      have b21 : y1.1 17 = Int32.ofNat l.length := b2.1
      rw [b1, bd_so, lt, b21]
      exact d1'
  · obtain ⟨a, b, v1, v2, v0, v3, ra, rb, sz, sz0, sz1, sv, svm, xe⟩ := sz_L H i0 c
    have xlen : (xL σ a).length ≤ 4000 := xL_len sz0 sz1
    obtain ⟨τ, a1, a2, a3⟩ := copy_L (N := lNn L) (h := a) (v := v) (p := 0) sv vb ne (by omega)
    rw [Nat.zero_add] at a1
    obtain ⟨τm, d1, d2, d3⟩ := by19 (N := lNn L) hu rb.1 rb.2 (lNn L) 0 μ svm (by omega) (by rw [← xe]; have := hN; simp only [BIG] at this; show (xL σ a).length - 0 < eN (lE L); omega) (by rw [← xe]; exact xlen) (by rw [List.take_zero]; exact hasL_nil)
    rw [← xe] at d1 d2
    refine ⟨xL σ a, τ, τm, xlen, ?_, ?_, a2, d2, a3.1, vR_u hu d3, LC_u H (xw_u a3 hv) (vR_u hu d3)⟩
    · have a1' : xx2_copy (lNn L) σ a v 0 = some (Int32.ofNat (xL σ a).length, τ) := a1
      rw [c, v1, xx6_text, if_pos rfl, h_ll, a1', bd_so]; rfl
    · rw [mm_bytesOf, tm.1, bd_so]
      dsimp only
      rw [v0, if_pos rfl, tm.2, bd_so]
      dsimp only
      rw [v2, h_ll, lt]
      exact d1
