/-! LAYER 2: rows of bytes as lists; what is put together -/
theorem oN_add {a b : Nat} : Int32.ofNat a + Int32.ofNat b = Int32.ofNat (a + b) := (Int32.ofNat_add a b).symm
theorem oN_s {a : Nat} : Int32.ofNat a + 1 = Int32.ofNat (a + 1) := (Int32.ofNat_add a 1).symm
theorem oN_le {a b : Nat} (ha : a < 2147483648) (hb : b < 2147483648) : Int32.ofNat a ≤ Int32.ofNat b ↔ a ≤ b := by
  rw [tI_le, tI_lit ha, tI_lit hb]; omega
theorem oN_lt {a b : Nat} (ha : a < 2147483648) (hb : b < 2147483648) : Int32.ofNat a < Int32.ofNat b ↔ a < b := by
  rw [tI_lt, tI_lit ha, tI_lit hb]; omega
theorem oN_eq {a b : Nat} (ha : a < 2147483648) (hb : b < 2147483648) : Int32.ofNat a = Int32.ofNat b ↔ a = b := by
  rw [tI_eq, tI_lit ha, tI_lit hb]; omega
theorem oN_cl {a : Nat} (ha : a < 2147483648) : (Int32.ofNat a).toNatClampNeg = a := by
  rw [tI_cl, tI_lit ha]; rfl
theorem gd_oN {α : Type} {a n : Nat} {k : Option α} (ha : a < n) (hn : n < 2147483648) : gd (inB (Int32.ofNat a) n) k = k := gd_of (tI_in (by rw [tI_lit (by omega)]; omega) (by rw [tI_lit (by omega)]; omega))
theorem gD_l {a b : List Int32} {k : Nat} (h : k < a.length) : (a ++ b).getD k 0 = a.getD k 0 := by
  rw [List.getD_eq_getElem?_getD, List.getD_eq_getElem?_getD, List.getElem?_append_left h]
theorem gD_r {a b : List Int32} {k : Nat} (h : a.length ≤ k) : (a ++ b).getD k 0 = b.getD (k - a.length) 0 := by
  rw [List.getD_eq_getElem?_getD, List.getD_eq_getElem?_getD, List.getElem?_append_right h]
/-- a row holds these bytes from p on -/
def hasL (f : Nat → Int32) (p : Nat) (l : List Int32) : Prop := ∀ k, k < l.length → f (p + k) &&& 255 = l.getD k 0
theorem hasL_nil {f : Nat → Int32} {p : Nat} : hasL f p [] := fun k h => absurd h (by simp)
theorem hasL_app {f : Nat → Int32} {p : Nat} {a b : List Int32} : hasL f p (a ++ b) ↔ hasL f p a ∧ hasL f (p + a.length) b := by
  constructor
  · intro h
    refine ⟨fun k hk => ?_, fun k hk => ?_⟩
    · have := h k (by rw [List.length_append]; omega)
      rw [this, gD_l hk]
    · have := h (a.length + k) (by rw [List.length_append]; omega)
      rw [← Nat.add_assoc] at this
      rw [this, gD_r (by omega)]
      congr 1
      omega
  · rintro ⟨h1, h2⟩ k hk
    rw [List.length_append] at hk
    by_cases c : k < a.length
    · rw [gD_l c]; exact h1 k c
    · rw [gD_r (by omega)]
      have := h2 (k - a.length) (by omega)
      rw [← this]
      congr 2
      omega
theorem hasL_congr {f g : Nat → Int32} {p : Nat} {l : List Int32} (h : hasL f p l) (hc : ∀ k, p ≤ k → k < p + l.length → g k = f k) : hasL g p l := fun k hk => by
  rw [hc (p + k) (by omega) (by omega)]; exact h k hk
theorem hasL_one {f : Nat → Int32} {p : Nat} {b : Int32} (h : f p &&& 255 = b) : hasL f p [b] := fun k hk => by
  have : k = 0 := by simp at hk; exact hk
  subst this
  exact h
theorem hasL_eq {f g : Nat → Int32} {p r : Nat} {l : List Int32} (h : hasL f p l) (h' : hasL g r l) {k : Nat} (hk : k < l.length) : f (p + k) &&& 255 = g (r + k) &&& 255 := by
  rw [h k hk, h' k hk]
theorem hasL_take {f : Nat → Int32} {p n : Nat} {l : List Int32} (h : hasL f p l) : hasL f p (l.take n) := by
  have e := List.take_append_drop n l
  rw [← e, hasL_app] at h
  exact h.1
/-- what is put together on the reference: these bytes -/
def bufL (μ : mS) (l : List Int32) : Prop := sF μ 17 = Int32.ofNat l.length ∧ hasL (μ.2.2.1 16) 0 (l.take 4400)
def bK (k : Nat) : Bool := [16, 17].contains k
theorem bufL_0 {μ : mS} : bufL (md_pi μ 17 0) [] := ⟨rfl, hasL_nil⟩
theorem put_m {N : Nat} {μ : mS} {l : List Int32} {b : Int32} (h : bufL μ l) (hl : l.length < 2147483647) : ∃ τ, mm_put N μ b = some τ ∧ bufL τ (l ++ [b &&& 255]) ∧ m_fr bK μ τ := by
  obtain ⟨h1, h2⟩ := h
  have h1' : μ.1 17 = Int32.ofNat l.length := h1
  have e1 : Int32.ofNat l.length + 1 = Int32.ofNat (l ++ [b &&& 255]).length := by rw [oN_s, List.length_append]; rfl
  simp only [mm_put, h1', oN_le (show 4400 < 2147483648 by decide) (show l.length < 2147483648 by omega)]
  by_cases c : 4400 ≤ l.length
  · rw [if_pos c]
    refine ⟨_, rfl, ⟨?_, ?_⟩, mf_pi mf_rfl rfl⟩
    · rw [sF_pi, if_pos rfl, h1']; exact e1
    · rw [List.take_append_of_le_length c]; exact h2
  · rw [if_neg c, gd_oN (by omega) (by decide), oN_cl (by omega)]
    refine ⟨_, rfl, ⟨?_, ?_⟩, mf_pi (mf_ai mf_rfl rfl) rfl⟩
    · rw [sF_pi, if_pos rfl]
      show μ.1 17 + 1 = _
      rw [h1']; exact e1
    · have q : (l ++ [b &&& 255]).take 4400 = l ++ [b &&& 255] := List.take_of_length_le (by rw [List.length_append]; simp; omega)
      have q2 : l.take 4400 = l := List.take_of_length_le (by omega)
      rw [q, hasL_app]
      rw [q2] at h2
      refine ⟨hasL_congr h2 (fun k _ hk => ?_), hasL_one ?_⟩
      · show (md_ai μ 16 l.length _).2.2.1 16 k = _
        rw [ai_I, if_pos rfl, upd_at, if_neg (by omega)]
      · show (md_ai μ 16 l.length _).2.2.1 16 (0 + l.length) &&& 255 = _
        rw [ai_I, if_pos rfl, upd_at, if_pos (by omega), b_mask]
        have := @b_mask b
        rw [vp_nar_byte] at this
        exact this
theorem bK_f {k : Nat} (h : k ≠ 16 ∧ k ≠ 17) : bK k = false := by
  simp only [bK, List.contains_cons, List.contains_nil, Bool.or_eq_false_iff, beq_eq_false_iff_ne]
  exact ⟨h.1, h.2, trivial⟩
/-- texts of the two programs -/
def xtx (i : Nat) : List Int32 := (xs_by.getD i []).map (fun b => b &&& 255)
def mtx (i : Nat) : List Int32 := (ms_by.getD i []).map (fun b => b &&& 255)
theorem dr_1 {l : List Int32} {k : Nat} (h : k < l.length) : l.drop k = l.getD k 0 :: l.drop (k + 1) := by
  rw [List.drop_eq_getElem_cons h, List.getD_eq_getElem?_getD, List.getElem?_eq_getElem h]; rfl
theorem gD_map {l : List Int32} {k : Nat} (h : k < l.length) : (l.map (fun b => b &&& 255)).getD k 0 = l.getD k 0 &&& 255 := by
  rw [List.getD_eq_getElem?_getD, List.getD_eq_getElem?_getD, List.getElem?_map, List.getElem?_eq_getElem h]; rfl
theorem b_255x {b : Int32} : b &&& 255 &&& 255 = b &&& 255 := by
  rw [Int32.and_assoc]; rfl
theorem putText_lp {N : Nat} {t : Nat} (ht : t < 76) (hl : ms_l t < 1000) : ∀ (n k : Nat) (μ : mS) (l : List Int32), k ≤ ms_l t → ms_l t - k < n → bufL μ l → l.length + (ms_l t - k) < 1000000 → ∃ τ, mm_putText_2 N n t (Int32.ofNat k) μ = some τ ∧ bufL τ (l ++ (mtx t).drop k) ∧ m_fr bK μ τ := by
  intro n
  induction n with
  | zero => intro k μ l _ h; omega
  | succ n ih =>
    intro k μ l hk hn hb hl'
    have tb : tB t = true := by simp only [tB, decide_eq_true_eq]; exact ht
    have ml : (mtx t).length = ms_l t := by simp only [mtx, ms_l, List.length_map]
    rw [mm_putText_2, tb]
    simp only [gd]
    by_cases c : ms_l t ≤ k
    · rw [if_pos ((oN_le (by omega) (by omega)).mpr c)]
      refine ⟨μ, rfl, ?_, mf_rfl⟩
      rw [List.drop_eq_nil_of_le (by omega), List.append_nil]; exact hb
    · rw [if_neg (fun q => c ((oN_le (by omega) (by omega)).mp q))]
      have g1 : inB (Int32.ofNat k) (ms_l t) = true := tI_in (by rw [tI_lit (by omega)]; omega) (by rw [tI_lit (by omega)]; omega)
      rw [g1, oN_cl (by omega)]
      obtain ⟨τ, e1, e2, e3⟩ := put_m (N := N) (b := ms_b t k &&& 255) hb (by omega)
      simp only [e1, bd, lt, oN_s]
      obtain ⟨υ, f1, f2, f3⟩ := ih (k + 1) τ _ (by omega) (by omega) e2 (by
        rw [List.length_append, List.length_singleton]; omega)
      refine ⟨υ, f1, ?_, mf_tr e3 f3⟩
      have dd : (mtx t).drop k = (ms_b t k &&& 255 &&& 255) :: (mtx t).drop (k + 1) := by
        rw [dr_1 (by omega), b_255x]
        congr 1
        exact gD_map (by simp only [ms_l] at c; omega)
      rw [dd]
      rw [List.append_assoc] at f2
      exact f2
theorem putText_m {N : Nat} (hN : BIG ≤ N) {t : Nat} (ht : t < 76) {μ : mS} {l : List Int32} (hb : bufL μ l) (hl : l.length < 900000) : ∃ τ, mm_putText N μ t = some τ ∧ bufL τ (l ++ mtx t) ∧ m_fr bK μ τ := by
  have q : ms_l t < 1000 := by
    have : ∀ i, i < 76 → ms_l i < 1000 := by decide +kernel
    exact this t ht
  have := putText_lp (N := N) ht q N 0 μ l (by omega) (by simp only [BIG] at hN; omega) hb (by omega)
  exact this
/-- only these places of one row change -/
def xw (v p n : Nat) (σ τ : mS) : Prop := m_fr (fun k => k == v) σ τ ∧ ∀ k, k < p ∨ p + n ≤ k → τ.2.2.1 v k = σ.2.2.1 v k
theorem xw_rfl {v p n : Nat} {σ : mS} : xw v p n σ σ := ⟨mf_rfl, fun _ _ => rfl⟩
theorem xw_tr {v p n m : Nat} {σ τ υ : mS} (h : xw v p n σ τ) (h' : xw v (p + n) m τ υ) : xw v p (n + m) σ υ := ⟨mf_tr h.1 h'.1, fun k hk => by rw [h'.2 k (by omega), h.2 k (by omega)]⟩
theorem xw_ai {v p i : Nat} {σ : mS} {b : Int32} (h : i = p) : xw v p 1 σ (md_ai σ v i b) := ⟨mf_ai mf_rfl (by simp), fun k hk => by rw [ai_I, if_pos rfl, upd_at, if_neg (by omega)]⟩
theorem hasL_xw {v p n q : Nat} {σ τ : mS} {l : List Int32} (h : hasL (σ.2.2.1 v) q l) (x : xw v p n σ τ) (hq : q + l.length ≤ p) : hasL (τ.2.2.1 v) q l := hasL_congr h (fun k k0 k1 => x.2 k (by omega))
theorem ascii_lp {N : Nat} {t v : Nat} {L : Nat} (ht : t < 141) (hl : xs_l t < 1000) (hv : x_aB 4 v = true) (hL : x_ln v = L) (L2 : L < 2147483648) (p : Nat) (hp : p + xs_l t ≤ L) : ∀ (n k : Nat) (σ : mS), k ≤ xs_l t → xs_l t - k < n → hasL (σ.2.2.1 v) p ((xtx t).take k) → ∃ τ, xx6_ascii_b2 N n (3000 + t) v (Int32.ofNat p) (Int32.ofNat k) σ = some (Int32.ofNat (p + xs_l t), τ) ∧ hasL (τ.2.2.1 v) p (xtx t) ∧ xw v (p + k) (xs_l t - k) σ τ := by
  intro n
  induction n with
  | zero => intro k σ _ h; omega
  | succ n ih =>
    intro k σ hk hn hb
    have tb : x_tB (3000 + t) = true := by simp only [x_tB, Bool.and_eq_true, decide_eq_true_eq]; omega
    have ml : (xtx t).length = xs_l t := by simp only [xtx, xs_l, List.length_map]
    rw [xx6_ascii_b2, tb, Nat.add_sub_cancel_left]
    simp only [gd]
    by_cases c : xs_l t ≤ k
    · rw [if_pos ((oN_le (by omega) (by omega)).mpr c), oN_add]
      refine ⟨σ, rfl, ?_, xw_rfl⟩
      rw [List.take_of_length_le (by omega)] at hb; exact hb
    · rw [if_neg (fun q => c ((oN_le (by omega) (by omega)).mp q))]
      have g1 : inB (Int32.ofNat k) (xs_l t) = true := tI_in (by rw [tI_lit (by omega)]; omega) (by rw [tI_lit (by omega)]; omega)
      have g2 : inB (Int32.ofNat (p + k)) (x_ln v) = true := tI_in (by rw [tI_lit (by omega)]; omega) (by rw [tI_lit (by omega), hL]; omega)
      simp only [g1, hv, oN_add, g2, lt, oN_s, oN_cl (show p + k < 2147483648 by omega), oN_cl (show k < 2147483648 by omega)]
      have x1 : xw v (p + k) 1 σ (md_ai σ v (p + k) (vp_nar .byte ((Int32.toInt8 (xs_b t k &&& 255)).toInt32))) := xw_ai rfl
      obtain ⟨υ, f1, f2, f3⟩ := ih (k + 1) (md_ai σ v (p + k) (vp_nar .byte ((Int32.toInt8 (xs_b t k &&& 255)).toInt32))) (by omega) (by omega) (by
        have : (xtx t).take (k + 1) = (xtx t).take k ++ [(xtx t).getD k 0] := by
          rw [List.take_succ, List.getD_eq_getElem?_getD, List.getElem?_eq_getElem (by omega)]; rfl
        rw [this, hasL_app]
        have tk : ((xtx t).take k).length = k := by rw [List.length_take]; omega
        refine ⟨hasL_xw hb x1 (by omega), hasL_one ?_⟩
        rw [tk, ai_I, if_pos rfl, upd_at, if_pos rfl, b_mask]
        have := @b_mask (xs_b t k &&& 255)
        rw [vp_nar_byte] at this
        rw [this, b_255x]
        exact (gD_map (by simp only [xs_l] at c; omega)).symm)
      refine ⟨υ, f1, f2, ?_⟩
      have := xw_tr x1 f3
      rw [show xs_l t - k = 1 + (xs_l t - (k + 1)) by omega]
      exact this
theorem ascii_x {N : Nat} (hN : BIG ≤ N) {t v p L : Nat} {σ : mS} (ht : t < 141) (hv : x_aB 4 v = true) (hL : x_ln v = L) (L2 : L < 2147483648) (hp : p + xs_l t ≤ L) : ∃ τ, xx6_ascii N σ (3000 + t) v (Int32.ofNat p) = some (Int32.ofNat (p + (xtx t).length), τ) ∧ hasL (τ.2.2.1 v) p (xtx t) ∧ xw v p (xtx t).length σ τ := by
  have q : xs_l t < 1000 := by
    have : ∀ i, i < 141 → xs_l i < 1000 := by decide +kernel
    exact this t ht
  have ml : (xtx t).length = xs_l t := by simp only [xtx, xs_l, List.length_map]
  have := ascii_lp (N := N) ht q hv hL L2 p hp N 0 σ (by omega) (by simp only [BIG] at hN; omega) hasL_nil
  rw [ml]
  exact this
