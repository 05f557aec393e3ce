/-! LAYER 2: functions of the house: string.format: one place -/
theorem fault_L2 {α : Type} {L : LQ} (E : EVok (lE L)) {w : WD} {σ μ : mS} (H : LM L w σ μ) {t tm : Nat} (ht : t < 141) (htm : tm < 76) (he : xtx t = mtx tm) (hlen : (mtx tm).length ≤ 100) {k : mS → Option mS} (hk : ∀ z, sF z 227 = 1 → k z = some z) : OEL (α := α) L w (bx (xx6_fault (lNn L) σ (3000 + t)) (fun z => some (Except.error (z.1, z.2)))) (bd (mm_fault_2 (lNn L) (md_pi μ 227 1) tm) k) := by
  have e : bd (mm_fault_2 (lNn L) (md_pi μ 227 1) tm) k = mm_fault_2 (lNn L) (md_pi μ 227 1) tm := by
    cases h : mm_fault_2 (lNn L) (md_pi μ 227 1) tm with
    | none => rfl
    | some z =>
      have := k_fault (v := 1) (show sF (md_pi μ 227 1) 227 = 1 by simp only [sF_pi, if_true]) z h
      rw [bd_so]; exact hk z this
  rw [e]
  exact fault_L E H ht htm he hlen
theorem fm_dead {N n : Nat} {a b c : Int32} {z : mS} (h : ¬ sF z 227 = 0) : mm_format_190 N (mm_format_14 N (n + 1)) a b c z = some z := by
  have t : mm_tooLong N z = some z := by rw [mm_tooLong, sF_fold, if_neg h]; rfl
  have e200 : mm_format_200 N z = some z := by rw [mm_format_200, sF_fold, if_neg h]; rfl
  rw [mm_format_190, t, bd_so, mm_format_194, lt, mm_format_14, sF_fold, sF_fold, if_neg h, e200, ite_self]
theorem u227' {z : mS} : ¬ sF (md_pi z 227 1) 227 = 0 := by
  simp only [sF_pi, if_true]; decide
/-- what holds at a place: the format, what is put together -/
def FmT (l acc : List Int32) (σ μ : mS) : Prop := TT l σ μ ∧ acc.length ≤ 4000 ∧ hasL (σ.2.2.1 521) 0 acc ∧ bufL μ acc
/-- behind one place: what the next needs, or it is too long -/
def FN (L : LQ) (w : WD) (l acc t : List Int32) (size : Int32) (σ μ : mS) : Prop := LC L w 0 σ μ ∧ TT l σ μ ∧ (((acc ++ t).length ≤ 4000 ∧ size = Int32.ofNat (acc ++ t).length ∧ hasL (σ.2.2.1 521) 0 (acc ++ t) ∧ bufL μ (acc ++ t)) ∨ (4000 < size ∧ 4000 < sF μ 17))
theorem TT_fr {P Q : Nat → Bool} {l : List Int32} {σ μ τ τm : mS} (T : TT l σ μ) (fr : m_fr P σ τ) (frm : m_fr Q μ τm) (h1 : P 520 = false) (h2 : Q 223 = false) (h3 : Q 224 = false) : TT l τ τm := by
  obtain ⟨a, b, c, d, e, f⟩ := T
  exact ⟨a, by rw [fr.2.2.1 520 h1]; exact b, by rw [fr.2.2.1 520 h1]; exact c, by rw [mf_F frm h3]; exact d, by rw [frm.2.2.1 223 h2]; exact e, by rw [frm.2.2.1 223 h2]; exact f⟩
/-- the system puts a piece behind: whatever the reference has done -/
theorem fo_155 {L : LQ} {w : WD} {l acc t : List Int32} {σ μ μ1 : mS} (H : LC L w 0 σ μ) (T : TT l σ μ) (ha : acc.length ≤ 4000) (h521 : hasL (σ.2.2.1 521) 0 acc) (ht : t.length ≤ 4000) (h522 : hasL (σ.2.2.1 522) 0 t) (fr : m_fr bK μ μ1) (hb : bufL μ1 (acc ++ t) ∨ (4000 < acc.length + t.length ∧ 4000 < sF μ1 17)) {N : Nat} : ∃ size τ, xx8_formatOne_b155 N (Int32.ofNat acc.length) (Int32.ofNat t.length) σ = some (.ok (size, τ)) ∧ FN L w l acc t size τ μ1 := by
  have c4 : Int32.ofNat acc.length + Int32.ofNat t.length ≤ 4000 ↔ acc.length + t.length ≤ 4000 := by
    rw [oN_add, show (4000 : Int32) = Int32.ofNat 4000 from rfl, oN_le (by omega) (by omega)]
  have T1 : TT l σ μ1 := TT_fr (P := fun _ => false) T mf_rfl fr rfl rfl rfl
  have H1 : LC L w 0 σ μ1 := LC_u H mf_rfl (bK_u fr)
  rw [xx8_formatOne_b155]
  by_cases c : acc.length + t.length ≤ 4000
  · rw [if_pos (c4.mpr c), cp_g vB_522 vB_521 (by omega) (by omega), gd_tt, lt]
    have cf := cp_fr (σ := σ) (i := 522) (j := 521) (sp := 0) (dp := Int32.ofNat acc.length) (n := Int32.ofNat t.length)
    have u : m_fr uX σ (x_cp σ 522 0 521 (Int32.ofNat acc.length) (Int32.ofNat t.length)) := mf_mono cf (fun k hk => by
      simp only [beq_eq_false_iff_ne]
      rintro rfl
      exact absurd hk (by decide))
    refine ⟨_, _, rfl, LC_u H1 u mf_rfl, TT_fr (Q := fun _ => false) T1 cf mf_rfl rfl rfl rfl, .inl ⟨by rw [List.length_append]; exact c, by rw [oN_add, List.length_append], cp_app h521 h522 (by omega), ?_⟩⟩
    rcases hb with hb | hb
    · exact hb
    · omega
  · rw [if_neg (fun q => c (c4.mp q))]
    refine ⟨_, _, rfl, H1, T1, .inr ⟨by decide, ?_⟩⟩
    rcases hb with hb | hb
    · have e : sF μ1 17 = Int32.ofNat (acc ++ t).length := hb.1
      rw [e, show (4000 : Int32) = Int32.ofNat 4000 from rfl, oN_lt (by omega) (by rw [List.length_append]; omega), List.length_append]; omega
    · exact hb.2
theorem LC_522 {L : LQ} {w : WD} {g : Int32} {σ μ τ : mS} (H : LC L w g σ μ) (fr : m_fr (fun k => k == 522) σ τ) : LC L w g τ μ := LC_u H (mf_mono fr (fun k hk => by
  simp only [beq_eq_false_iff_ne]
  rintro rfl
  exact absurd hk (by decide))) mf_rfl
/-- a number's digits, hex digits, one byte -/
theorem fo_num {L : LQ} (E : EVok (lE L)) {w : WD} {l acc : List Int32} {σ μ : mS} (H : LC L w 0 σ μ) (F : FmT l acc σ μ) (big : 10000 < lNn L) (v : Int64) : ∃ size τ μ1 t, bd (xx6_digits (lNn L) σ v 522 0) (fun z7 => xx8_formatOne_b155 (lNn L) (Int32.ofNat acc.length) z7.1 z7.2) = some (.ok (size, τ)) ∧ mm_putAs (lNn L) μ 100 v = some μ1 ∧ FN L w l acc t size τ μ1 := by
  obtain ⟨T, ha, h521, hb⟩ := F
  obtain ⟨t, ht⟩ := numT_ex v
  have tl := numT_len ht
  obtain ⟨τ, a1, a2, a3⟩ := digits_L (N := lNn L) (EV_N E) (v := 522) (p := 0) (σ := σ) ht vB_522 (by omega)
  rw [Nat.zero_add] at a1
  obtain ⟨μ1, b1, b2, b3⟩ := putNumber_m (N := lNn L) (EV_N E) ht hb (by omega)
  obtain ⟨size, τ', r1, r2⟩ := fo_155 (N := lNn L) (LC_522 H a3.1) (TT_fr (Q := fun _ => false) T a3.1 mf_rfl rfl rfl rfl) ha (by rw [a3.1.2.2.1 521 rfl]; exact h521) (by omega) a2 b3 (.inl b2)
  have a1' : xx6_digits (lNn L) σ v 522 0 = some (Int32.ofNat t.length, τ) := a1
  refine ⟨size, τ', μ1, t, ?_, ?_, r2⟩
  · rw [a1', bd_so]; exact r1
  · rw [mm_putAs, if_pos rfl, b1, bd_so]; rfl
theorem fo_hex {L : LQ} {w : WD} {l acc : List Int32} {σ μ : mS} (H : LC L w 0 σ μ) (F : FmT l acc σ μ) (big : 10000 < lNn L) (v : Int64) : ∃ size τ μ1 t, bd (xx8_hex (lNn L) σ v) (fun z7 => xx8_formatOne_b155 (lNn L) (Int32.ofNat acc.length) z7.1 z7.2) = some (.ok (size, τ)) ∧ mm_putAs (lNn L) μ 120 v = some μ1 ∧ FN L w l acc t size τ μ1 := by
  obtain ⟨T, ha, h521, hb⟩ := F
  obtain ⟨d, hd⟩ := vN_hn v
  have d16 := hd.2.1
  obtain ⟨τ, a1, a2, a3⟩ := hex_x big hd (σ := σ)
  obtain ⟨μ1, b1, b2, b3⟩ := hex_m big hd hb (by omega)
  obtain ⟨size, τ', r1, r2⟩ := fo_155 (N := lNn L) (LC_522 H a3) (TT_fr (Q := fun _ => false) T a3 mf_rfl rfl rfl rfl) ha (by rw [a3.2.2.1 521 rfl]; exact h521) (by rw [hxT_len]; omega) a2 b3 (.inl b2)
  refine ⟨size, τ', μ1, _, ?_, b1, r2⟩
  rw [a1, bd_so]; exact r1
theorem fo_byte {L : LQ} {w : WD} {l acc : List Int32} {σ μ : mS} (H : LC L w 0 σ μ) (F : FmT l acc σ μ) (v : Int64) : ∃ size τ μ1 t, gd (inB 0 4200) (lt (md_ai σ 522 (0 : Int32).toNatClampNeg (vp_nar .byte (v.toInt32.toInt8.toInt32))) (fun σ5 => xx8_formatOne_b155 (lNn L) (Int32.ofNat acc.length) 1 σ5)) = some (.ok (size, τ)) ∧ mm_putAs (lNn L) μ 99 v = some μ1 ∧ FN L w l acc t size τ μ1 := by
  obtain ⟨T, ha, h521, hb⟩ := F
  obtain ⟨w1, w2, w3⟩ := wr_1 (σ := σ) (p := 0) (b := v.toInt32.toInt8.toInt32) (l := []) vB_522 hasL_nil (by decide)
  rw [List.nil_append, nar8] at w2
  obtain ⟨μ1, b1, b2, b3⟩ := put_m (N := lNn L) (b := v.toInt32 &&& 255) hb (by omega)
  rw [b_255x] at b2
  obtain ⟨size, τ', r1, r2⟩ := fo_155 (N := lNn L) (t := [v.toInt32 &&& 255]) (LC_522 H w3.1) (TT_fr (Q := fun _ => false) T w3.1 mf_rfl rfl rfl rfl) ha (by rw [w3.1.2.2.1 521 rfl]; exact h521) (by simp) w2 b3 (.inl b2)
  refine ⟨size, τ', μ1, _, ?_, ?_, r2⟩
  · rw [show (inB 0 4200) = true from by decide, gd_tt, lt]; exact r1
  · rw [mm_putAs, if_neg (by decide), if_pos rfl, b1, bd_so]; rfl
/-- the text of a value -/
theorem fo_val {L : LQ} (E : EVok (lE L)) {w : WD} {l acc : List Int32} {σ μ : mS} (H : LC L w 0 σ μ) (F : FmT l acc σ μ) {i : Int32} (i0 : 1 ≤ i) (i1 : i ≤ 150) (hi : ¬ ln L < i) : ∃ size τ μ1 t, bd (xx8_textOf (lNn L) σ (aT σ i) (aV σ i) 522 0) (fun z11 => xx8_formatOne_b155 (lNn L) (Int32.ofNat acc.length) z11.1 z11.2) = some (.ok (size, τ)) ∧ mm_putWhole (lNn L) μ i = some μ1 ∧ FN L w l acc t size τ μ1 := by
  obtain ⟨T, ha, h521, hb⟩ := F
  have va := arg_V' H i0 hi
  have TS' := LC_TS H.1
  have tm := tag_M (N := lNn L) H i0 i1
  have tt := VV_t va
  obtain ⟨t, ht, tl⟩ := VV_ex TS' va
  obtain ⟨τ, a1, a2, a3⟩ := textOf_x (N := lNn L) (EV_N E) TS' va (v := 522) (p := 0) (by decide) vB_522 ht (by omega)
  rw [Nat.zero_add] at a1
  have a1' : xx8_textOf (lNn L) σ (aT σ i) (aV σ i) 522 0 = some (Int32.ofNat t.length, τ) := a1
  have fin : ∀ μ1, m_fr bK μ μ1 → (bufL μ1 (acc ++ t) ∨ (4000 < acc.length + t.length ∧ 4000 < sF μ1 17)) → mm_putWhole (lNn L) μ i = some μ1 → ∃ size τ μ1 t, bd (xx8_textOf (lNn L) σ (aT σ i) (aV σ i) 522 0) (fun z11 => xx8_formatOne_b155 (lNn L) (Int32.ofNat acc.length) z11.1 z11.2) = some (.ok (size, τ)) ∧ mm_putWhole (lNn L) μ i = some μ1 ∧ FN L w l acc t size τ μ1 := fun μ1 fr o e => by
    obtain ⟨size, τ', r1, r2⟩ := fo_155 (N := lNn L) (LC_522 H a3.1) (TT_fr (Q := fun _ => false) T a3.1 mf_rfl rfl rfl rfl) ha (by rw [a3.1.2.2.1 521 rfl]; exact h521) tl a2 fr o
    exact ⟨size, τ', μ1, t, by rw [a1', bd_so]; exact r1, e, r2⟩
  obtain ⟨μ1, b1, b2, b3⟩ := putValue_m (N := lNn L) (EV_N E) TS' va ht hb (by omega)
  have e54 : mm_putWhole_54 (lNn L) i μ = some μ1 := by
    rw [mm_putWhole_54, tm.1, bd_so]
    dsimp only
    rw [tm.2, bd_so]
    dsimp only
    rw [b1, bd_so]; rfl
  by_cases c : aT σ i = 4
  · have c' : bT μ i = 3 := tt.2.2.1.mp c
    obtain ⟨a, b, v1, v2, v0, v3, ra, rb, sz, sz0, sz1, sv, svm, xe⟩ := sz_L H i0 c
    have te : t = xL σ a := by
      rcases ht with h | h | h | h | h | h
      case inr.inr.inr.inr.inl => rw [h.2, v1, h_ll]
      all_goals (have := h.1; rw [c] at this; exact absurd this (by decide))
    have ln : (xL σ a).length = (x_sz σ a).toNatClampNeg := bL_len
    have s1 : sI μ 3 b = Int32.ofNat t.length := by
      have : x_sz σ a = Int32.ofNat (xL σ a).length := by rw [ln, oN_cl' (show 0 ≤ x_sz σ a from sz0)]
      rw [te, ← this]
      exact sz.symm
    have b17 : sF μ 17 = Int32.ofNat acc.length := hb.1
    have c4 : Int32.ofNat acc.length + Int32.ofNat t.length ≤ 4000 ↔ acc.length + t.length ≤ 4000 := by
      rw [oN_add, show (4000 : Int32) = Int32.ofNat 4000 from rfl, oN_le (by omega) (by omega)]
    have pw : mm_putWhole (lNn L) μ i = if Int32.ofNat acc.length + Int32.ofNat t.length ≤ 4000 then mm_putWhole_54 (lNn L) i μ else some (md_pi μ 17 (Int32.ofNat acc.length + Int32.ofNat t.length)) := by
      rw [mm_putWhole, tm.1, bd_so]
      dsimp only
      rw [if_pos c', tm.2, bd_so]
      dsimp only
      rw [v2, h_ll, gd_in (by decide) rb.1 rb.2, sF_fold, sI_fold, b17, s1, tm.2, bd_so]
      dsimp only
      rw [v2, h_ll, gd_in (by decide) rb.1 rb.2, sI_fold, s1]
      rfl
    by_cases q : acc.length + t.length ≤ 4000
    · rw [if_pos (c4.mpr q)] at pw
      exact fin μ1 b3 (.inl b2) (pw.trans e54)
    · rw [if_neg (fun h => q (c4.mp h))] at pw
      refine fin _ (mf_pi mf_rfl rfl) (.inr ⟨by omega, ?_⟩) pw
      rw [sF_pi, if_pos rfl, oN_add, show (4000 : Int32) = Int32.ofNat 4000 from rfl, oN_lt (by omega) (by omega)]; omega
  · have c' : ¬ bT μ i = 3 := fun q => c (tt.2.2.1.mpr q)
    refine fin μ1 b3 (.inl b2) ?_
    rw [mm_putWhole, tm.1, bd_so]
    dsimp only
    rw [if_neg c']; exact e54
