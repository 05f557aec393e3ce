/-! LAYER 2: functions of the house: string.find -/
theorem eqB {x y a b : Int32} (hx : isB x) (hy : isB y) (h1 : x &&& 255 = a) (h2 : y &&& 255 = b) : x = y ↔ a = b := ⟨fun h => by rw [← h1, ← h2, h], fun h => B_eq hx hy (by rw [h1, h2, h])⟩
def mtB (l l2 : List Int32) (m k : Nat) : Prop := ∀ j, k ≤ j → j < l2.length → l.getD (m + j) 0 = l2.getD j 0
theorem hL0 {f : Nat → Int32} {l : List Int32} (h : hasL f 0 l) {k : Nat} (hk : k < l.length) : f k &&& 255 = l.getD k 0 := by
  have := h k hk
  rw [Nat.zero_add] at this; exact this
theorem fd_x {N : Nat} {r : Int32 → Int32 → Int64 → mS → Option (Except (Nat × mS) mS)} {l l2 : List Int32} (h4 : l.length ≤ 4000) {m : Nat} (hm : m + l2.length ≤ l.length) {v1 : Int32} {σ : mS} (x1 : hasL (σ.2.2.1 520) 0 l) (x2 : hasL (σ.2.2.1 521) 0 l2) (x3 : hB (σ.2.2.1 520) l.length) (x4 : hB (σ.2.2.1 521) l2.length) : ∀ (c k n : Nat), k + c = l2.length → c < n → ∃ k', xx8_find_b53 N r n v1 (Int32.ofNat l2.length) (Int32.toInt64 (Int32.ofNat (m + 1))) (Int32.ofNat k) σ = xx8_find_b88 N r v1 (Int32.ofNat l2.length) (Int32.toInt64 (Int32.ofNat (m + 1))) (Int32.ofNat k') σ ∧ k' ≤ l2.length ∧ (k' = l2.length ↔ mtB l l2 m k) := by
  intro c
  induction c with
  | zero =>
    intro k n hk hn
    obtain ⟨n, rfl⟩ : ∃ j, n = j + 1 := ⟨n - 1, by omega⟩
    refine ⟨k, ?_, by omega, ⟨fun _ j j0 j1 => absurd j1 (by omega), fun _ => by omega⟩⟩
    rw [xx8_find_b53, if_pos (by rw [oN_le (by omega) (by omega)]; omega)]
  | succ c ih =>
    intro k n hk hn
    obtain ⟨n, rfl⟩ : ∃ j, n = j + 1 := ⟨n - 1, by omega⟩
    have nle : ¬ Int32.ofNat l2.length ≤ Int32.ofNat k := fun q => by rw [oN_le (by omega) (by omega)] at q; omega
    have e := eqB (x3 (m + k) (by omega)) (x4 k (by omega)) (hL0 x1 (by omega)) (hL0 x2 (by omega))
    rw [xx8_find_b53, if_neg nle, h_ll, on_1, oN_add, gd_oN (by omega) (by decide), gd_oN (by omega) (by decide), oN_cl (by omega), oN_cl (by omega)]
    by_cases q : σ.2.2.1 520 (m + k) = σ.2.2.1 521 k
    · obtain ⟨k', r1, r2, r3⟩ := ih (k + 1) n (by omega) (by omega)
      refine ⟨k', ?_, r2, r3.trans ⟨fun h j j0 j1 => ?_, fun h j j0 j1 => h j (by omega) j1⟩⟩
      · rw [if_pos q, lt, oN_s]; exact r1
      · by_cases jk : j = k
        · rw [jk]; exact e.mp q
        · exact h j (by omega) j1
    · refine ⟨k, by rw [if_neg q], by omega, ⟨fun h => absurd h (by omega), fun h => absurd (e.mpr (h k (by omega) (by omega))) q⟩⟩
theorem fd_0 {N n : Nat} {r : Int64 → mS → Option mS} {v3 : Int64} {v6 : Int32} {μ : mS} : mm_search_84 N r (n + 1) v3 0 v6 μ = mm_search_133 N r v3 0 μ := by
  rw [mm_search_84, if_pos (show (0 : Int32) = 0 from rfl), ite_self]
theorem fd_m {N : Nat} {r : Int64 → mS → Option mS} {l l2 : List Int32} (h4 : l.length ≤ 4000) {m : Nat} (hm : m + l2.length ≤ l.length) {μ : mS} (e226 : sF μ 226 = Int32.ofNat l2.length) (x1 : hasL (μ.2.2.1 223) 0 l) (x2 : hasL (μ.2.2.1 225) 0 l2) (x3 : hB (μ.2.2.1 223) l.length) (x4 : hB (μ.2.2.1 225) l2.length) : ∀ (c k n : Nat), k + c = l2.length → c + 1 < n → ∃ b, mm_search_84 N r n (Int32.toInt64 (Int32.ofNat (m + 1))) 1 (Int32.ofNat k) μ = mm_search_133 N r (Int32.toInt64 (Int32.ofNat (m + 1))) b μ ∧ ((b = 1 ∧ mtB l l2 m k) ∨ (b = 0 ∧ ¬ mtB l l2 m k)) := by
  intro c
  induction c with
  | zero =>
    intro k n hk hn
    obtain ⟨n, rfl⟩ : ∃ j, n = j + 1 := ⟨n - 1, by omega⟩
    refine ⟨1, ?_, .inl ⟨rfl, fun j j0 j1 => absurd j1 (by omega)⟩⟩
    rw [mm_search_84, sF_fold, e226, if_pos (by rw [oN_le (by omega) (by omega)]; omega)]
  | succ c ih =>
    intro k n hk hn
    obtain ⟨n, rfl⟩ : ∃ j, n = j + 1 := ⟨n - 1, by omega⟩
    have nle : ¬ Int32.ofNat l2.length ≤ Int32.ofNat k := fun q => by rw [oN_le (by omega) (by omega)] at q; omega
    have e := eqB (x3 (m + k) (by omega)) (x4 k (by omega)) (hL0 x1 (by omega)) (hL0 x2 (by omega))
    rw [mm_search_84, sF_fold, e226, if_neg nle, if_neg (show ¬ (1 : Int32) = 0 by decide), h_ll, on_1, oN_add, gd_oN (by omega) (by decide), gd_oN (by omega) (by decide), oN_cl (by omega), oN_cl (by omega)]
    by_cases q : μ.2.2.1 223 (m + k) = μ.2.2.1 225 k
    · obtain ⟨b, r1, r2⟩ := ih (k + 1) n (by omega) (by omega)
      refine ⟨b, ?_, ?_⟩
      · rw [if_pos q, mm_search_125, lt, oN_s]; exact r1
      · have iff : mtB l l2 m (k + 1) ↔ mtB l l2 m k := ⟨fun h j j0 j1 => by
          by_cases jk : j = k
          · rw [jk]; exact e.mp q
          · exact h j (by omega) j1, fun h j j0 j1 => h j (by omega) j1⟩
        rcases r2 with ⟨r2, r3⟩ | ⟨r2, r3⟩
        · exact .inl ⟨r2, iff.mp r3⟩
        · exact .inr ⟨r2, fun h => r3 (iff.mpr h)⟩
    · obtain ⟨n, rfl⟩ : ∃ j, n = j + 1 := ⟨n - 1, by omega⟩
      refine ⟨0, ?_, .inr ⟨rfl, fun h => q (e.mpr (h k (by omega) (by omega)))⟩⟩
      rw [if_neg q, mm_search_125, lt, fd_0]
theorem tI_sn {a b : Nat} (ha : a ≤ 1000000) (hb : b ≤ 1000000) : (Int32.ofNat a - Int32.ofNat b).toInt = (a : Int) - b := by
  rw [tI_sub] <;> rw [tI_lit (by omega), tI_lit (by omega)] <;> omega
theorem fd_lp {L : LQ} {w : WD} {l l2 : List Int32} (h4 : l.length ≤ 4000) (h5 : l2.length ≤ 4000) (big : 10000 < lNn L) {σ μ : mS} (H : LC L w 0 σ μ) (e224 : sF μ 224 = Int32.ofNat l.length) (e226 : sF μ 226 = Int32.ofNat l2.length) (x1 : hasL (σ.2.2.1 520) 0 l) (x2 : hasL (σ.2.2.1 521) 0 l2) (x3 : hB (σ.2.2.1 520) l.length) (x4 : hB (σ.2.2.1 521) l2.length) (y1 : hasL (μ.2.2.1 223) 0 l) (y2 : hasL (μ.2.2.1 225) 0 l2) (y3 : hB (μ.2.2.1 223) l.length) (y4 : hB (μ.2.2.1 225) l2.length) : ∀ (c m n n' : Nat), m + l2.length + c = l.length + 1 → c < n → c < n' → LO L w (xx8_find_b38 (lNn L) n (Int32.ofNat l.length) (Int32.ofNat l2.length) (Int32.toInt64 (Int32.ofNat (m + 1))) σ) (mm_search_60 (lNn L) n' (Int32.toInt64 (Int32.ofNat (m + 1))) μ) := by
  have z1 : (1 : Int64).toInt = 1 := rfl
  have cx : ∀ m, m ≤ 4001 → (0 < lg_cmp (Int32.toInt64 (Int32.ofNat (m + 1))) (Int32.toInt64 (Int32.ofNat l.length - Int32.ofNat l2.length) + 1) ↔ l.length < m + l2.length) := fun m hm => by
    rw [lgc_gt, L_lt, L_add (by rw [L_64, tI_sn (by omega) (by omega), z1]; omega) (by rw [L_64, tI_sn (by omega) (by omega), z1]; omega), L_64, L_64, tI_sn (by omega) (by omega), z1, tI_lit (by omega)]
    omega
  have cm : ∀ m, m ≤ 4001 → (0 < lg_cmp (Int32.toInt64 (Int32.ofNat (m + 1)) + Int32.toInt64 (Int32.ofNat l2.length) - 1) (Int32.toInt64 (Int32.ofNat l.length)) ↔ l.length < m + l2.length) := fun m hm => by
    have a1 : (Int32.toInt64 (Int32.ofNat (m + 1)) + Int32.toInt64 (Int32.ofNat l2.length)).toInt = m + 1 + l2.length := by
      rw [L_add] <;> rw [L_64, L_64, tI_lit (by omega), tI_lit (by omega)] <;> omega
    rw [lgc_gt, L_lt, L_sub (by rw [a1, z1]; omega) (by rw [a1, z1]; omega), a1, L_64, z1, tI_lit (by omega)]
    omega
  intro c
  induction c with
  | zero =>
    intro m n n' hm hn hn'
    obtain ⟨n, rfl⟩ : ∃ j, n = j + 1 := ⟨n - 1, by omega⟩
    obtain ⟨n', rfl⟩ : ∃ j, n' = j + 1 := ⟨n' - 1, by omega⟩
    obtain ⟨τ, τm, b1, b2, b3, _⟩ := give_L (N := lNn L) H (by decide) VV_nil
    rw [xx8_find_b38, if_pos ((cx m (by omega)).mpr (by omega)), mm_search_60, sF_fold, sF_fold, e224, e226, if_pos ((cm m (by omega)).mpr (by omega)), xx8_giveNil, b1, b2, bx_so, bx_so, bd_so]
    exact LO_ok b3
  | succ c ih =>
    intro m n n' hm hn hn'
    obtain ⟨n, rfl⟩ : ∃ j, n = j + 1 := ⟨n - 1, by omega⟩
    obtain ⟨n', rfl⟩ : ∃ j, n' = j + 1 := ⟨n' - 1, by omega⟩
    rw [xx8_find_b38, if_neg (fun q => by have := (cx m (by omega)).mp q; omega), mm_search_60, sF_fold, sF_fold, e224, e226, if_neg (fun q => by have := (cm m (by omega)).mp q; omega)]
    obtain ⟨k', f1, f2, f3⟩ := fd_x (N := lNn L) (r := xx8_find_b38 (lNn L) n) h4 (show m + l2.length ≤ l.length by omega) (v1 := Int32.ofNat l.length) x1 x2 x3 x4 l2.length 0 (lNn L) (by omega) (by omega)
    obtain ⟨b, g1, g2⟩ := fd_m (N := lNn L) (r := mm_search_60 (lNn L) n') h4 (show m + l2.length ≤ l.length by omega) e226 y1 y2 y3 y4 l2.length 0 (lNn L) (by omega) (by omega)
    have f1' : xx8_find_b53 (lNn L) (xx8_find_b38 (lNn L) n) (lNn L) (Int32.ofNat l.length) (Int32.ofNat l2.length) (Int32.toInt64 (Int32.ofNat (m + 1))) 0 σ = _ := f1
    have g1' : mm_search_84 (lNn L) (mm_search_60 (lNn L) n') (lNn L) (Int32.toInt64 (Int32.ofNat (m + 1))) 1 0 μ = _ := g1
    rw [f1', g1', xx8_find_b88, mm_search_133]
    rcases g2 with ⟨rfl, g2⟩ | ⟨rfl, g2⟩
    · have vn : ∀ v : Int64, VV w 3 v 2 v := fun v => .inr (.inr (.inr (.inl ⟨rfl, rfl, rfl⟩)))
      obtain ⟨τ, τm, b1, b2, b3, b4, b5⟩ := give_L (N := lNn L) H (by decide) (vn (Int32.toInt64 (Int32.ofNat (m + 1))))
      obtain ⟨τ', τm', d1, d2, d3, _⟩ := give_L (N := lNn L) b3 (by decide) (vn (Int32.toInt64 (Int32.ofNat (m + 1)) + Int32.toInt64 (Int32.ofNat l2.length) - 1))
      have e226' : sF τm 226 = Int32.ofNat l2.length := by rw [mf_F b5 rfl]; exact e226
      rw [if_pos (by rw [f3.mpr g2]), if_neg (show ¬ (1 : Int32) = 0 by decide), xx8_giveNumber, b1, bx_so, bx_so, xx8_giveNumber, d1, bx_so, bx_so, b2, bd_so, sF_fold, e226', d2, bd_so]
      exact LO_ok d3
    · have ne : ¬ k' = l2.length := fun q => g2 (f3.mp q)
      rw [if_neg (fun q => ne ((oN_eq (by omega) (by omega)).mp q)), if_pos rfl, lt, lt, oL_s (by omega)]
      exact ih (m + 1) n n' (by omega) (by omega) (by omega)
theorem texts_25 {N : Nat} {z : mS} : xx8_texts N z 25 = xx8_find N z := show bx (xx8_find N z) (fun z7 => xx8_texts_b186 N z7) = xx8_find N z from bx_ok
theorem ofs_25 {N : Nat} {z : mS} : mm_ofStrings N z 25 = bd (mm_isText N z 1 25) (fun z12 => bd (mm_unless N z12.2 z12.1) (fun z13 => if sF z13 227 = 0 then bd (mm_isText N z13 2 25) (fun z35 => if z35.1 = 0 then mm_ofStrings_258 N z35.2 else bd (mm_mayBeNumber N z35.2 3 25) (fun z36 => if z36.1 = 0 then mm_ofStrings_258 N z36.2 else mm_ofStrings_259 N 1 z36.2)) else some z13)) := rfl
theorem lib_find {L : LQ} (E : EVok (lE L)) {w : WD} {σ μ : mS} (H : LC L w 0 σ μ) (hl : lB L = 25) : LO L w (xx8_texts (lNn L) σ 25) (mm_ofStrings (lNn L) μ 25) := by
  have hl' : (25 : Int32) = Int32.ofNat (lB L) := by rw [hl]; rfl
  have hN := EV_N E
  have big : 10000 < lNn L := by
    have := hN
    simp only [BIG] at this
    show 10000 < eN (lE L)
    omega
  rw [texts_25, ofs_25, xx8_find]
  refine (isText_L E H (i := 1) (v := 520) (by decide) (by decide) hl' (fun z => ⟨md_pi z 227 1, ?_, u227⟩)).elim (fun ⟨a1, a2, a3, a4⟩ => ?_) (fun o => .inr o)
  · simp only [unless_0, bd_so, bx_so, bd_bd, lt, gd_z1, gd_z0, sF_fold, sF_pi, if_true, i10, if_false, ite_true, ite_false]
  obtain ⟨l, τ, τm, len, x1, x2, x3, x4, x5, x6, H1, x7, x8⟩ := text_argB E H (i := 1) (by decide) (by decide) a1 (v := 520) (u := 223) (by omega) (.inl rfl)
  have u5 : m_fr uX σ τ := mf_mono x5 (fun k hk => by
    simp only [beq_eq_false_iff_ne]
    rintro rfl
    exact absurd hk (by decide))
  have H' : LC L w 0 τ μ := LC_u H u5 mf_rfl
  have H2 : LC L w 0 τ (md_pi τm 224 (Int32.ofNat l.length)) := LC_u H1 mf_rfl (mf_pi mf_rfl rfl)
  have fm : m_fr uM μ (md_pi τm 224 (Int32.ofNat l.length)) := mf_tr x6 (mf_pi mf_rfl rfl)
  rw [a3 _ _ x1, a4, bx_so, bd_so]
  dsimp only
  rw [unless_1 (L_227 H), bd_so]
  simp only [L_227 H, if_true]
  refine (isText_L E H' (i := 2) (v := 521) (by decide) (by decide) hl' (fun z => ⟨md_pi z 227 1, ?_, u227⟩)).elim (fun ⟨c1, c2, c3, c4⟩ => ?_) (fun o => .inr o)
  · simp only [unless_0, bd_so, bx_so, bd_bd, lt, gd_z1, gd_z0, sF_fold, sF_pi, if_true, i10, if_false, ite_true, ite_false, mm_ofStrings_258, mm_ofStrings_259, mm_ofStrings_397]
  obtain ⟨l2, υ, υm, len2, y1, y2, y3, y4, y5, y6, H3, y7, y8⟩ := text_argB E H2 (i := 2) (by decide) (by decide) c1 (v := 521) (u := 225) (by omega) (.inr rfl)
  have y6' := bys_fr (N := lNn L) hN y2
  have v5 : m_fr uX τ υ := mf_mono y5 (fun k hk => by
    simp only [beq_eq_false_iff_ne]
    rintro rfl
    exact absurd hk (by decide))
  have H4 : LC L w 0 υ μ := LC_u H' v5 mf_rfl
  have H5 : LC L w 0 υ (md_pi υm 226 (Int32.ofNat l2.length)) := LC_u H3 mf_rfl (mf_pi mf_rfl rfl)
  have fm2 : m_fr uM μ (md_pi υm 226 (Int32.ofNat l2.length)) := mf_tr fm (mf_tr y6 (mf_pi mf_rfl rfl))
  have e224 : sF (md_pi υm 226 (Int32.ofNat l2.length)) 224 = Int32.ofNat l.length := by
    simp only [sF_pi, sF_pl, sF_ai, sF_al, sG_pi, sG_pl, sG_ai, sG_al, sI_pi, sI_pl, sI_al, sI_ai1, sI_ai2, sJ_pi, sJ_pl, sJ_ai, sJ_al1, sJ_al2, Nat.reduceEqDiff, if_true, if_false, ne_eq, not_false_eq_true, ite_true, ite_false]
    rw [mf_F y6' rfl]
    simp only [sF_pi, sF_pl, sF_ai, sF_al, sG_pi, sG_pl, sG_ai, sG_al, sI_pi, sI_pl, sI_al, sI_ai1, sI_ai2, sJ_pi, sJ_pl, sJ_ai, sJ_al1, sJ_al2, Nat.reduceEqDiff, if_true, if_false, ne_eq, not_false_eq_true, ite_true, ite_false]
  have e226 : sF (md_pi υm 226 (Int32.ofNat l2.length)) 226 = Int32.ofNat l2.length := by simp only [sF_pi, sF_pl, sF_ai, sF_al, sG_pi, sG_pl, sG_ai, sG_al, sI_pi, sI_pl, sI_al, sI_ai1, sI_ai2, sJ_pi, sJ_pl, sJ_ai, sJ_al1, sJ_al2, Nat.reduceEqDiff, if_true, if_false, ne_eq, not_false_eq_true, ite_true, ite_false]
  have e224' : (md_pi υm 226 (Int32.ofNat l2.length)).1 224 = Int32.ofNat l.length := e224
  rw [c3 _ _ y1, c4, bx_so, bd_so, if_neg (show ¬ (1 : Int32) = 0 by decide)]
  dsimp only
  refine (opt_L E H4 (i := 3) (o := 1) (by decide) (by decide) hl' (fun z => ⟨md_pi z 227 1, ?_, u227⟩)).elim (fun ⟨v3, m1, m2, m3, o3⟩ => ?_) (fun o => .inr o)
  · simp only [unless_0, bd_so, bx_so, bd_bd, lt, gd_z1, gd_z0, sF_fold, sF_pi, if_true, i10, if_false, ite_true, ite_false, mm_ofStrings_258, mm_ofStrings_259, mm_ofStrings_397]
  have r3 := nOr (N := lNn L) (o := 1) H fm2 rfl rfl rfl rfl (i := 3) (by decide) (by decide)
  have ev : (if bT μ 3 = 2 then bV μ 3 else 1) = v3 := by
    rcases o3 with ⟨_, q2, q3⟩ | ⟨_, q2, q3⟩
    · rw [if_neg (by rw [q3]; decide), q2]
    · rw [if_pos q2, q3]
  rw [ev] at r3
  obtain ⟨P, F, p1, p2, p3, p4, p5, p6⟩ := from_2 (N := lNn L) (σ := υ) (μ := md_pi υm 226 (Int32.ofNat l2.length)) (v := v3) len
  rw [m2, m3, bx_so, bd_so, if_neg (show ¬ (1 : Int32) = 0 by decide)]
  dsimp only
  rw [p1, bd_so]
  dsimp only
  rw [p3, bd_so, mm_ofStrings_259, unless_1 (L_227 H), bd_so]
  simp only [sF_fold, L_227 H, if_true]
  rw [show (fun z11 => mm_ofStrings_397 (lNn L) z11) = fun z11 => some z11 from rfl, bd_id, mm_search, read_m x2, bd_so, y2, bd_so, lt]
  dsimp only
  rw [r3, bd_so]
  dsimp only
  rw [e224', p4, bd_so]
  dsimp only
  rw [e224']
  have i520 : υ.2.2.1 520 = τ.2.2.1 520 := y5.2.2.1 520 rfl
  have i223 : (md_pi υm 226 (Int32.ofNat l2.length)).2.2.1 223 = τm.2.2.1 223 := y6'.2.2.1 223 rfl
  have z1 : (1 : Int64).toInt = 1 := rfl
  have z2 : (2 : Int64).toInt = 2 := rfl
  have en : (Int32.toInt64 (Int32.ofNat l.length)).toInt = l.length := by rw [L_64, tI_lit (by omega)]
  have a1 : (Int32.toInt64 (Int32.ofNat l.length) + 1).toInt = l.length + 1 := by rw [L_add, en, z1] <;> rw [en, z1] <;> omega
  have a2 : (Int32.toInt64 (Int32.ofNat l.length) + 2).toInt = l.length + 2 := by rw [L_add, en, z2] <;> rw [en, z2] <;> omega
  by_cases fc : F.toInt + l2.length ≤ l.length + 1
  · have eF : F = Int32.toInt64 (Int32.ofNat (F.toInt.toNat - 1 + 1)) := by
      rw [L_eq, L_64, tI_lit (by omega)]; omega
    rw [if_pos (lgc_le.mpr (by rw [L_le, a1]; omega)), mm_search_57, eF]
    exact fd_lp len len2 big H5 e224 e226 (by rw [i520]; exact x3) y3 (by rw [i520]; exact x7) y7 (by rw [i223]; exact x4) y4 (by rw [i223]; exact x8) y8 (l.length + 1 - l2.length - (F.toInt.toNat - 1)) (F.toInt.toNat - 1) (lNn L) (lNn L) (by omega) (by omega) (by omega)
  · obtain ⟨n, hn⟩ : ∃ j, lNn L = j + 1 := ⟨lNn L - 1, by omega⟩
    obtain ⟨τ', τm', b1, b2, b3, _⟩ := give_L (N := lNn L) H5 (by decide) VV_nil
    have cx : 0 < lg_cmp F (Int32.toInt64 (Int32.ofNat l.length - Int32.ofNat l2.length) + 1) := by
      rw [lgc_gt, L_lt, L_add (by rw [L_64, tI_sn (by omega) (by omega), z1]; omega) (by rw [L_64, tI_sn (by omega) (by omega), z1]; omega), L_64, tI_sn (by omega) (by omega), z1]
      omega
    have ref : ∀ G : Int64, 1 ≤ G.toInt → G.toInt ≤ l.length + 2 → l.length + 1 < G.toInt + l2.length → mm_search_57 (lNn L) G (md_pi υm 226 (Int32.ofNat l2.length)) = some τm' := fun G g0 g1 g2 => by
      have b0 : (G + Int32.toInt64 (Int32.ofNat l2.length)).toInt = G.toInt + l2.length := by
        rw [L_add] <;> rw [L_64, tI_lit (by omega)] <;> omega
      have cm : 0 < lg_cmp (G + Int32.toInt64 (Int32.ofNat l2.length) - 1) (Int32.toInt64 (Int32.ofNat l.length)) := by
        rw [lgc_gt, L_lt, L_sub (by rw [b0, z1]; omega) (by rw [b0, z1]; omega), b0, en, z1]
        omega
      rw [mm_search_57]
      conv => lhs; arg 2; rw [hn]
      rw [mm_search_60, sF_fold, sF_fold, e224, e226, if_pos cm, b2, bd_so]
    have xs : xx8_find_b38 (lNn L) (lNn L) (Int32.ofNat l.length) (Int32.ofNat l2.length) F υ = some (.ok τ') := by
      conv => lhs; arg 2; rw [hn]
      rw [xx8_find_b38, if_pos cx, xx8_giveNil, b1, bx_so, bx_so]
    rw [xs]
    by_cases fd : F.toInt ≤ l.length + 1
    · rw [if_pos (lgc_le.mpr (by rw [L_le, a1]; exact fd)), ref F p5 (by omega) (by omega)]
      exact LO_ok b3
    · rw [if_neg (fun q => fd (by have := lgc_le.mp q; rw [L_le, a1] at this; exact this)), ref _ (by rw [a2]; omega) (by rw [a2]; omega) (by rw [a2]; omega)]
      exact LO_ok b3
