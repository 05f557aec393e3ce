/-! LAYER 2: functions of the house: string.lower, string.upper -/
def gl23 (y : Int32) : Int32 := (if y < 65 then y else if 90 < y then y else y + 32) &&& 255
def gl24 (y : Int32) : Int32 := (if y < 97 then y else if 122 < y then y else y - 32) &&& 255
theorem gl_23 {x : Int32} (h : isB x) : (if x < 65 then x else if 90 < x then x else x + 32) &&& 255 = gl23 (x &&& 255) := isB_all (P := fun x => (if x < 65 then x else if 90 < x then x else x + 32) &&& 255 = gl23 (x &&& 255)) (by decide +kernel) h
theorem gl_24 {x : Int32} (h : isB x) : (if x < 97 then x else if 122 < x then x else x + -32) &&& 255 = gl24 (x &&& 255) := isB_all (P := fun x => (if x < 97 then x else if 122 < x then x else x + -32) &&& 255 = gl24 (x &&& 255)) (by decide +kernel) h
theorem gD_mp {g : Int32 → Int32} {l : List Int32} {k : Nat} (h : k < l.length) : (l.map g).getD k 0 = g (l.getD k 0) := by
  rw [List.getD_eq_getElem?_getD, List.getD_eq_getElem?_getD, List.getElem?_map, List.getElem?_eq_getElem h]
  rfl
theorem map_t {g : Int32 → Int32} {l : List Int32} {i : Nat} (h : i < l.length) : (l.map g).take (i + 1) = (l.map g).take i ++ [g (l.getD i 0)] := by
  rw [take_1 (by rw [List.length_map]; exact h)]
  rw [gD_mp h]
theorem ot_1 {N n i len : Nat} {v1 v2 v3 : Int32} {σ : mS} (h : i < len) (h4 : len ≤ 4000) : xx8_other_b14 N (n + 1) v1 v2 v3 (Int32.ofNat len) (Int32.ofNat i) σ = xx8_other_b14 N n v1 v2 v3 (Int32.ofNat len) (Int32.ofNat (i + 1)) (md_ai σ 520 i (vp_nar .byte ((if σ.2.2.1 520 i < v1 then σ.2.2.1 520 i else if v2 < σ.2.2.1 520 i then σ.2.2.1 520 i else σ.2.2.1 520 i + v3).toInt8.toInt32))) := by
  have b61 : xx8_other_b61 N (xx8_other_b14 N n) v1 v2 v3 (Int32.ofNat len) (Int32.ofNat i) (Int32.ofNat i) σ = xx8_other_b14 N n v1 v2 v3 (Int32.ofNat len) (Int32.ofNat (i + 1)) (md_ai σ 520 i (vp_nar .byte ((σ.2.2.1 520 i).toInt8.toInt32))) := by
    rw [xx8_other_b61, gd_oN (by omega) (by decide), xx8_other_b68, gd_oN (by omega) (by decide), oN_cl (by omega), lt, lt, oN_s]
  have nle : ¬ Int32.ofNat len ≤ Int32.ofNat i := fun q => by rw [oN_le (by omega) (by omega)] at q; omega
  rw [xx8_other_b14, if_neg nle, gd_oN (by omega) (by decide), oN_cl (by omega)]
  by_cases c1 : σ.2.2.1 520 i < v1
  · rw [if_pos c1, if_pos c1, b61]
  · rw [if_neg c1, if_neg c1, gd_oN (by omega) (by decide)]
    by_cases c2 : v2 < σ.2.2.1 520 i
    · rw [if_pos c2, if_pos c2, b61]
    · rw [if_neg c2, if_neg c2, gd_oN (by omega) (by decide), xx8_other_b68, gd_oN (by omega) (by decide), oN_cl (by omega), lt, lt, oN_s]
theorem ot_x {N : Nat} {l : List Int32} (len : l.length ≤ 4000) {v1 v2 v3 : Int32} {g : Int32 → Int32} (hg : ∀ x, isB x → (if x < v1 then x else if v2 < x then x else x + v3) &&& 255 = g (x &&& 255)) : ∀ (c i n : Nat) (σ : mS), i + c = l.length → c < n → (∀ k, k < i → σ.2.2.1 520 k &&& 255 = g (l.getD k 0)) → (∀ k, i ≤ k → k < l.length → σ.2.2.1 520 k &&& 255 = l.getD k 0 ∧ isB (σ.2.2.1 520 k)) → ∃ τ, xx8_other_b14 N n v1 v2 v3 (Int32.ofNat l.length) (Int32.ofNat i) σ = bx (xx8_giveBytes N τ 520 0 (Int32.ofNat l.length)) (fun z3 => some (.ok z3)) ∧ hasL (τ.2.2.1 520) 0 (l.map g) ∧ m_fr (fun k => k == 520) σ τ := by
  intro c
  induction c with
  | zero =>
    intro i n σ hi hn h1 h2
    obtain ⟨n, rfl⟩ : ∃ j, n = j + 1 := ⟨n - 1, by omega⟩
    have e : i = l.length := by omega
    subst e
    refine ⟨σ, ?_, ?_, mf_rfl⟩
    · rw [xx8_other_b14, if_pos (Int32.le_refl _)]
    · intro k hk
      rw [List.length_map] at hk
      rw [Nat.zero_add, h1 k hk, gD_mp hk]
  | succ c ih =>
    intro i n σ hi hn h1 h2
    obtain ⟨n, rfl⟩ : ∃ j, n = j + 1 := ⟨n - 1, by omega⟩
    obtain ⟨q1, q2⟩ := h2 i (by omega) (by omega)
    have st : ∀ (b : Int32) k, (md_ai σ 520 i b).2.2.1 520 k = if k = i then b else σ.2.2.1 520 k := fun b k => by rw [ai_I, if_pos rfl, upd_at]
    obtain ⟨τ, r1, r2, r3⟩ := ih (i + 1) n (md_ai σ 520 i (vp_nar .byte ((if σ.2.2.1 520 i < v1 then σ.2.2.1 520 i else if v2 < σ.2.2.1 520 i then σ.2.2.1 520 i else σ.2.2.1 520 i + v3).toInt8.toInt32))) (by omega) (by omega) (fun k hk => by
      rw [st]
      by_cases e : k = i
      · rw [if_pos e, b_mask, nar8, hg _ q2, q1, e]
      · rw [if_neg e]; exact h1 k (by omega)) (fun k k0 k1 => by
      rw [st, if_neg (by omega)]; exact h2 k (by omega) k1)
    refine ⟨τ, ?_, r2, mf_tr (mf_ai mf_rfl rfl) r3⟩
    rw [ot_1 (by omega) len]; exact r1
theorem ot_m {N : Nat} {l : List Int32} (len : l.length ≤ 4000) {f : Int32} {g : Int32 → Int32} (hg : ∀ (r : Int32 → Int32 → mS → Option mS) (i : Nat) (μ : mS), i < 4000 → ∃ b, mm_ofStrings_326 N r f (Int32.ofNat i) (Int32.ofNat i) μ = mm_ofStrings_384 N r f (Int32.ofNat i) b μ ∧ b &&& 255 = g (μ.2.2.1 223 i &&& 255)) (f22 : f ≠ 22) : ∀ (c i n : Nat) (μ : mS), i + c = l.length → c < n → sF μ 224 = Int32.ofNat l.length → hasL (μ.2.2.1 223) 0 l → bufL μ ((l.map g).take i) → ∃ τ, mm_ofStrings_296 N n f (Int32.ofNat i) μ = bd (mm_giveMade N τ) (fun z4 => mm_ofStrings_397 N z4) ∧ bufL τ (l.map g) ∧ m_fr bK μ τ := by
  intro c
  induction c with
  | zero =>
    intro i n μ hi hn h224 h1 h2
    obtain ⟨n, rfl⟩ : ∃ j, n = j + 1 := ⟨n - 1, by omega⟩
    have e : i = l.length := by omega
    subst e
    refine ⟨μ, ?_, ?_, mf_rfl⟩
    · rw [mm_ofStrings_296, sF_fold, h224, if_pos (Int32.le_refl _)]
    · rw [← List.length_map (f := g), List.take_length] at h2; exact h2
  | succ c ih =>
    intro i n μ hi hn h224 h1 h2
    obtain ⟨n, rfl⟩ : ∃ j, n = j + 1 := ⟨n - 1, by omega⟩
    have lk : ((l.map g).take i).length = i := by rw [List.length_take, List.length_map]; omega
    have e1 : μ.2.2.1 223 i &&& 255 = l.getD i 0 := by have := h1 i (by omega); rw [Nat.zero_add] at this; exact this
    obtain ⟨b, b1, b2⟩ := hg (mm_ofStrings_296 N n) i μ (by omega)
    obtain ⟨y, s1, s2, s3⟩ := put_m (N := N) (b := b) h2 (by rw [lk]; omega)
    rw [b2, e1, ← map_t (by omega)] at s2
    obtain ⟨τ, r1, r2, r3⟩ := ih (i + 1) n y (by omega) (by omega) (by rw [mf_F s3 rfl]; exact h224) (by rw [s3.2.2.1 223 rfl]; exact h1) s2
    refine ⟨τ, ?_, r2, mf_tr s3 r3⟩
    have nle : ¬ Int32.ofNat l.length ≤ Int32.ofNat i := fun q => by rw [oN_le (by omega) (by omega)] at q; omega
    rw [mm_ofStrings_296, sF_fold, h224, if_neg nle, if_neg f22, b1, mm_ofStrings_384, s1, bd_so, lt, oN_s]
    exact r1
theorem og_23 {N : Nat} (r : Int32 → Int32 → mS → Option mS) (i : Nat) (μ : mS) (hi : i < 4000) : ∃ b, mm_ofStrings_326 N r 23 (Int32.ofNat i) (Int32.ofNat i) μ = mm_ofStrings_384 N r 23 (Int32.ofNat i) b μ ∧ b &&& 255 = gl23 (μ.2.2.1 223 i &&& 255) := by
  rw [mm_ofStrings_326, gd_oN (by omega) (by decide), oN_cl (by omega), lt, if_pos rfl]
  generalize μ.2.2.1 223 i &&& 255 = y
  have e : mm_ofStrings_358 N r 23 (Int32.ofNat i) y μ = mm_ofStrings_384 N r 23 (Int32.ofNat i) y μ := by
    rw [mm_ofStrings_358, if_neg (by decide), mm_ofStrings_383]
  rw [e, gl23]
  by_cases c1 : y < 65
  · rw [if_pos c1, if_pos c1]; exact ⟨y, rfl, rfl⟩
  · rw [if_neg c1, if_neg c1]
    by_cases c2 : 90 < y
    · rw [if_pos c2, if_pos c2]; exact ⟨y, rfl, rfl⟩
    · rw [if_neg c2, if_neg c2]; exact ⟨_, rfl, rfl⟩
theorem og_24 {N : Nat} (r : Int32 → Int32 → mS → Option mS) (i : Nat) (μ : mS) (hi : i < 4000) : ∃ b, mm_ofStrings_326 N r 24 (Int32.ofNat i) (Int32.ofNat i) μ = mm_ofStrings_384 N r 24 (Int32.ofNat i) b μ ∧ b &&& 255 = gl24 (μ.2.2.1 223 i &&& 255) := by
  rw [mm_ofStrings_326, gd_oN (by omega) (by decide), oN_cl (by omega), lt, if_neg (show ¬ (24 : Int32) = 23 by decide), mm_ofStrings_358, if_pos rfl, mm_ofStrings_383]
  generalize μ.2.2.1 223 i &&& 255 = y
  rw [gl24]
  by_cases c1 : y < 97
  · rw [if_pos c1, if_pos c1]; exact ⟨y, rfl, rfl⟩
  · rw [if_neg c1, if_neg c1]
    by_cases c2 : 122 < y
    · rw [if_pos c2, if_pos c2]; exact ⟨y, rfl, rfl⟩
    · rw [if_neg c2, if_neg c2]; exact ⟨_, rfl, rfl⟩
theorem texts_23 {N : Nat} {z : mS} : xx8_texts N z 23 = bx (xx8_text N z 1 520) (fun z4 => xx8_other_b14 N N 65 90 32 z4.1 0 z4.2) := show bx (xx8_other N z 65 90 32) (fun z12 => xx8_texts_b186 N z12) = _ from bx_ok
theorem texts_24 {N : Nat} {z : mS} : xx8_texts N z 24 = bx (xx8_text N z 1 520) (fun z4 => xx8_other_b14 N N 97 122 (-32) z4.1 0 z4.2) := show bx (xx8_other N z 97 122 (-32)) (fun z12 => xx8_texts_b186 N z12) = _ from bx_ok
theorem ofs_23 {N : Nat} {z : mS} : mm_ofStrings N z 23 = bd (mm_isText N z 1 23) (fun z12 => bd (mm_unless N z12.2 z12.1) (fun z13 => if sF z13 227 = 0 then bd (mm_read N z13 1) (fun z29 => lt (md_pi z29 17 0) (fun σ30 => mm_ofStrings_296 N N 23 0 σ30)) else some z13)) := rfl
theorem ofs_24 {N : Nat} {z : mS} : mm_ofStrings N z 24 = bd (mm_isText N z 1 24) (fun z12 => bd (mm_unless N z12.2 z12.1) (fun z13 => if sF z13 227 = 0 then bd (mm_read N z13 1) (fun z29 => lt (md_pi z29 17 0) (fun σ30 => mm_ofStrings_296 N N 24 0 σ30)) else some z13)) := rfl
theorem other_L {L : LQ} (E : EVok (lE L)) {w : WD} {σ μ : mS} (H : LC L w 0 σ μ) {f v1 v2 v3 : Int32} {g : Int32 → Int32} (hl' : f = Int32.ofNat (lB L)) (f22 : f ≠ 22) (hx : ∀ x, isB x → (if x < v1 then x else if v2 < x then x else x + v3) &&& 255 = g (x &&& 255)) (hm : ∀ (r : Int32 → Int32 → mS → Option mS) (i : Nat) (μ : mS), i < 4000 → ∃ b, mm_ofStrings_326 (lNn L) r f (Int32.ofNat i) (Int32.ofNat i) μ = mm_ofStrings_384 (lNn L) r f (Int32.ofNat i) b μ ∧ b &&& 255 = g (μ.2.2.1 223 i &&& 255)) : LO L w (bx (xx8_text (lNn L) σ 1 520) (fun z4 => xx8_other_b14 (lNn L) (lNn L) v1 v2 v3 z4.1 0 z4.2)) (bd (mm_isText (lNn L) μ 1 f) (fun z12 => bd (mm_unless (lNn L) z12.2 z12.1) (fun z13 => if sF z13 227 = 0 then bd (mm_read (lNn L) z13 1) (fun z29 => lt (md_pi z29 17 0) (fun σ30 => mm_ofStrings_296 (lNn L) (lNn L) f 0 σ30)) else some z13))) := by
  have big : 5000 < lNn L := by
    have := EV_N E
    simp only [BIG] at this
    show 5000 < eN (lE L)
    omega
  refine (isText_L E H (i := 1) (v := 520) (by decide) (by decide) hl' (fun z => ⟨md_pi z 227 1, ?_, u227⟩)).elim (fun ⟨a1, a2, a3, a4⟩ => ?_) (fun o => .inr o)
  · simp only [unless_0, bd_so, bx_so, bd_bd, lt, gd_z1, gd_z0, sF_fold, sF_pi, if_true, i10, if_false, ite_true, ite_false]
  obtain ⟨l, τ, τm, len, x1, x2, x3, x4, x5, x6, H1, x7, x8⟩ := text_argB E H (i := 1) (by decide) (by decide) a1 (v := 520) (u := 223) (by omega) (.inl rfl)
  have H2 : LC L w 0 τ (md_pi (md_pi τm 224 (Int32.ofNat l.length)) 17 0) := LC_u H1 mf_rfl (mf_pi (mf_pi mf_rfl rfl) rfl)
  obtain ⟨τ', r1, r2, r3⟩ := ot_x (N := lNn L) len hx l.length 0 (lNn L) τ (by omega) (by omega) (fun k hk => absurd hk (by omega)) (fun k _ hk => ⟨by have := x3 k hk; rw [Nat.zero_add] at this; exact this, x7 k hk⟩)
  obtain ⟨y, s1, s2, s3⟩ := ot_m (N := lNn L) len hm f22 l.length 0 (lNn L) (md_pi (md_pi τm 224 (Int32.ofNat l.length)) 17 0) (by omega) (by omega) (by simp only [sF_pi, sF_pl, sF_ai, sF_al, sG_pi, sG_pl, sG_ai, sG_al, sI_pi, sI_pl, sI_al, sI_ai1, sI_ai2, sJ_pi, sJ_pl, sJ_ai, sJ_al1, sJ_al2, Nat.reduceEqDiff, if_true, if_false, ne_eq, not_false_eq_true, ite_true, ite_false]) x4 (by rw [List.take_zero]; exact bufL_0)
  have r1' : xx8_other_b14 (lNn L) (lNn L) v1 v2 v3 (Int32.ofNat l.length) 0 τ = bx (xx8_giveBytes (lNn L) τ' 520 0 (Int32.ofNat l.length)) (fun z3 => some (.ok z3)) := r1
  have s1' : mm_ofStrings_296 (lNn L) (lNn L) f 0 (md_pi (md_pi τm 224 (Int32.ofNat l.length)) 17 0) = bd (mm_giveMade (lNn L) y) (fun z4 => mm_ofStrings_397 (lNn L) z4) := s1
  rw [a3 _ _ x1, a4, bx_so, bd_so]
  dsimp only
  rw [unless_1 (L_227 H), bd_so]
  simp only [L_227 H, if_true]
  rw [read_m x2, bd_so, lt, r1', s1']
  have u2 : m_fr uX τ τ' := mf_mono r3 (fun k hk => by
    simp only [beq_eq_false_iff_ne]
    rintro rfl
    exact absurd hk (by decide))
  have := bytes_L E (LC_u H2 u2 (bK_u s3)) (by decide) (p := 0) (l := l.map g) vB_520 (by decide) (fun _ => ⟨by rw [List.length_map]; omega, r2⟩) s2 (by rw [List.length_map]; omega)
  rw [List.length_map] at this
  exact LO_end this (fun z => rfl) (fun z => rfl)
theorem lib_lower {L : LQ} (E : EVok (lE L)) {w : WD} {σ μ : mS} (H : LC L w 0 σ μ) (hl : lB L = 23) : LO L w (xx8_texts (lNn L) σ 23) (mm_ofStrings (lNn L) μ 23) := by
  rw [texts_23, ofs_23]
  exact other_L E H (by rw [hl]; rfl) (by decide) (fun x h => gl_23 h) og_23
theorem lib_upper {L : LQ} (E : EVok (lE L)) {w : WD} {σ μ : mS} (H : LC L w 0 σ μ) (hl : lB L = 24) : LO L w (xx8_texts (lNn L) σ 24) (mm_ofStrings (lNn L) μ 24) := by
  rw [texts_24, ofs_24]
  exact other_L E H (by rw [hl]; rfl) (by decide) (fun x h => gl_24 h) og_24
