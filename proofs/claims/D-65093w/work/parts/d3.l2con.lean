/-! LAYER 2: functions of the house: concat: one value -/
theorem bufL_any {μ : mS} {n : Nat} (h : sF μ 17 = Int32.ofNat n) : ∃ X, X.length = n ∧ bufL μ X := by
  refine ⟨(List.range n).map (fun j => μ.2.2.1 16 j &&& 255), by simp, by rw [List.length_map, List.length_range]; exact h, fun k hk => ?_⟩
  rw [List.length_take, List.length_map, List.length_range] at hk
  rw [Nat.zero_add, List.getD_eq_getElem?_getD, List.getElem?_take_of_lt (by omega), List.getElem?_map, List.getElem?_range (by omega)]
  rfl
/-- what stands between -/
def btL (k to : Int64) (l2 : List Int32) : List Int32 := if 0 ≤ lg_cmp k to then [] else l2
theorem cm_b {N : Nat} {r : Int32 → Int64 → Int64 → mS → Option mS} {b : Int32} {k to : Int64} {l2 X : List Int32} (h2 : l2.length ≤ 4000) (hX : X.length ≤ 20000) : ∀ (c i n : Nat) (μ : mS), i + c = l2.length → c < n → sF μ 226 = Int32.ofNat l2.length → hasL (μ.2.2.1 225) 0 l2 → bufL μ (X ++ (btL k to l2).take i) → ∃ τ, mm_concat_190 N r n b to k (Int32.ofNat i) μ = mm_concat_224 N r b to k τ ∧ bufL τ (X ++ btL k to l2) ∧ m_fr bK μ τ := by
  intro c
  induction c with
  | zero =>
    intro i n μ hi hn h226 h1 hb
    obtain ⟨n, rfl⟩ : ∃ j, n = j + 1 := ⟨n - 1, by omega⟩
    have e : i = l2.length := by omega
    subst e
    refine ⟨μ, ?_, ?_, mf_rfl⟩
    · rw [mm_concat_190, sF_fold, h226, if_pos (Int32.le_refl _), ite_self]
    · rw [List.take_of_length_le (by rw [btL]; split <;> simp)] at hb; exact hb
  | succ c ih =>
    intro i n μ hi hn h226 h1 hb
    obtain ⟨n, rfl⟩ : ∃ j, n = j + 1 := ⟨n - 1, by omega⟩
    by_cases c0 : 0 ≤ lg_cmp k to
    · refine ⟨μ, ?_, ?_, mf_rfl⟩
      · rw [mm_concat_190, if_pos c0]
      · rw [btL, if_pos c0] at hb ⊢
        rw [List.take_nil] at hb; exact hb
    · have eb : btL k to l2 = l2 := by rw [btL, if_neg c0]
      rw [eb] at hb
      obtain ⟨y, s1, s2, s3⟩ := put_m (N := N) (b := μ.2.2.1 225 i) hb (by rw [List.length_append, List.length_take]; omega)
      rw [hL0 h1 (by omega), List.append_assoc, ← take_1 (by omega)] at s2
      obtain ⟨τ, r1, r2, r3⟩ := ih (i + 1) n y (by omega) (by omega) (by rw [mf_F s3 rfl]; exact h226) (by rw [s3.2.2.1 225 rfl]; exact h1) (by rw [eb]; exact s2)
      refine ⟨τ, ?_, r2, mf_tr s3 r3⟩
      rw [mm_concat_190, if_neg c0, sF_fold, h226, if_neg (oN_nle (by omega) (by omega)), gd_oN (by omega) (by decide), oN_cl (by omega), s1, bd_so, lt, oN_s]
      exact r1
/-- the reference puts one value -/
theorem cm_v {L : LQ} (E : EVok (lE L)) {w : WD} {r : Int32 → Int64 → Int64 → mS → Option mS} {b : Int32} {k to : Int64} {l2 acc l : List Int32} (h2 : l2.length ≤ 4000) (ha : acc.length ≤ 4000) (hl : l.length ≤ 4000) {σ μ : mS} (H : LC L w 0 σ μ) {t c : Int32} {v d : Int64} (va : VV w t v c d) (ht : TXT σ t v l) (e42 : sF μ 42 = c) (e43 : sG μ 43 = d) (c23 : c = 2 ∨ c = 3) (hb : bufL μ acc) (h226 : sF μ 226 = Int32.ofNat l2.length) (h225 : hasL (μ.2.2.1 225) 0 l2) : ∃ τ, (if 4000 < sF μ 17 then mm_concat_165 (lNn L) r b to k μ else if sF μ 42 = 3 then gd (inB (Int64.toInt32 (sG μ 43)) 42000) (if sF μ 17 + μ.2.2.1 3 (Int64.toInt32 (sG μ 43)).toNatClampNeg ≤ 4000 then mm_concat_160 (lNn L) r b to k (sF μ 17) μ else mm_concat_161 (lNn L) r b to k (sF μ 17) 4001 μ) else mm_concat_160 (lNn L) r b to k (sF μ 17) μ) = mm_concat_224 (lNn L) r b to k τ ∧ m_fr bK μ τ ∧ (bufL τ (acc ++ l ++ btL k to l2) ∨ (4000 < acc.length + l.length ∧ 4000 < sF τ 17)) := by
  have big : 10000 < lNn L := by
    have := EV_N E
    simp only [BIG] at this
    show 10000 < eN (lE L)
    omega
  have b17 : sF μ 17 = Int32.ofNat acc.length := hb.1
  have n40 : ¬ (4000 : Int32) < Int32.ofNat acc.length := fun q => by
    rw [show (4000 : Int32) = Int32.ofNat 4000 from rfl, oN_lt (by omega) (by omega)] at q; omega
  have bl : (btL k to l2).length ≤ 4000 := by
    rw [btL]
    split
    · exact Nat.zero_le _
    · exact h2
  -- behind the value
  have tail : ∀ (y : mS) (X : List Int32), m_fr bK μ y → bufL y X → X.length ≤ 20000 → (X = acc ++ l ∨ (4000 < acc.length + l.length ∧ 4000 < X.length)) → ∃ τ, mm_concat_187 (lNn L) r b to k y = mm_concat_224 (lNn L) r b to k τ ∧ m_fr bK μ τ ∧ (bufL τ (acc ++ l ++ btL k to l2) ∨ (4000 < acc.length + l.length ∧ 4000 < sF τ 17)) := fun y X fr hX hXl o => by
    obtain ⟨τ, r1, r2, r3⟩ := cm_b (N := lNn L) (r := r) (b := b) (k := k) (to := to) (X := X) h2 hXl l2.length 0 (lNn L) y (by omega) (by omega) (by rw [mf_F fr rfl]; exact h226) (by rw [fr.2.2.1 225 rfl]; exact h225) (by rw [List.take_zero, List.append_nil]; exact hX)
    refine ⟨τ, r1, mf_tr fr r3, ?_⟩
    rcases o with o | ⟨o1, o2⟩
    · rw [o] at r2; exact .inl r2
    · refine .inr ⟨o1, ?_⟩
      have e : sF τ 17 = Int32.ofNat (X ++ btL k to l2).length := r2.1
      rw [e, List.length_append, show (4000 : Int32) = Int32.ofNat 4000 from rfl, oN_lt (by omega) (by omega)]; omega
  obtain ⟨y, p1, p2, p3⟩ := putValue_m (N := lNn L) (EV_N E) (LC_TS H.1) va ht hb (by omega)
  have e165 : mm_concat_165 (lNn L) r b to k μ = mm_concat_187 (lNn L) r b to k y := by
    rw [mm_concat_165, sF_fold, b17, if_neg n40, sF_fold, sG_fold, e42, e43, p1, bd_so]
  have e160 : mm_concat_160 (lNn L) r b to k (Int32.ofNat acc.length) μ = mm_concat_187 (lNn L) r b to k y := by
    rw [mm_concat_160, mm_concat_161, lt, Int32.add_zero, pi_smv b17, e165]
  have good := tail y _ p3 p2 (by rw [List.length_append]; omega) (.inl rfl)
  rw [b17, if_neg n40, e42]
  rcases c23 with c2 | c3
  · rw [c2, if_neg (by decide), e160]
    exact good
  · rw [c3, if_pos rfl, e43]
    have t4 : t = 4 := (VV_t va).2.2.1.mpr c3
    rw [t4, c3] at va
    rw [t4] at ht
    have st := VV_str va (.inl rfl)
    have gg := RS_gs (LC_TS H.1).1 st
    have sz := ((LC_TS H.1).1.2.2.2.2.2.1 _ _ st).1
    have le : l = xL σ v.toInt32 := by
      rcases ht with q | q | q | q | q | q
      case inr.inr.inr.inr.inl => exact q.2
      all_goals exact absurd q.1 (by decide)
    have s0 : 0 ≤ x_sz σ v.toInt32 := gg.1.1.2.2.2.1
    have ln : (xL σ v.toInt32).length = (x_sz σ v.toInt32).toNatClampNeg := bL_len
    have s1 : sI μ 3 d.toInt32 = Int32.ofNat l.length := by
      have : x_sz σ v.toInt32 = Int32.ofNat (xL σ v.toInt32).length := by rw [ln, oN_cl' s0]
      rw [le, ← this]
      exact sz.symm
    have s1' : μ.2.2.1 3 d.toInt32.toNatClampNeg = Int32.ofNat l.length := s1
    have c4 : Int32.ofNat acc.length + Int32.ofNat l.length ≤ 4000 ↔ acc.length + l.length ≤ 4000 := by
      rw [oN_add, show (4000 : Int32) = Int32.ofNat 4000 from rfl, oN_le (by omega) (by omega)]
    rw [gd_in (by decide) gg.2.1.1 gg.2.1.2.1, s1']
    by_cases q : acc.length + l.length ≤ 4000
    · rw [if_pos (c4.mpr q), e160]
      exact good
    · have e17 : sF (md_pi μ 17 (Int32.ofNat acc.length + 4001)) 17 = Int32.ofNat (acc.length + 4001) := by
        rw [sF_pi, if_pos rfl]; exact oN_add (a := acc.length) (b := 4001)
      obtain ⟨X, x1, x2⟩ := bufL_any e17
      have e161 : mm_concat_161 (lNn L) r b to k (Int32.ofNat acc.length) 4001 μ = mm_concat_187 (lNn L) r b to k (md_pi μ 17 (Int32.ofNat acc.length + 4001)) := by
        rw [mm_concat_161, lt, mm_concat_165, sF_fold, e17, if_pos (by rw [show (4000 : Int32) = Int32.ofNat 4000 from rfl, oN_lt (by omega) (by omega)]; omega)]
      rw [if_neg (fun h => q (c4.mp h)), e161]
      exact tail _ X (mf_pi mf_rfl rfl) x2 (by omega) (.inr ⟨by omega, by omega⟩)
