/-! LAYER 2: functions of the house: string.rep: the loops -/
theorem cp_app {σ : mS} {i j : Nat} {acc l : List Int32} (h1 : hasL (σ.2.2.1 j) 0 acc) (h2 : hasL (σ.2.2.1 i) 0 l) (hb : acc.length + l.length < 2147483648) : hasL ((x_cp σ i 0 j (Int32.ofNat acc.length) (Int32.ofNat l.length)).2.2.1 j) 0 (acc ++ l) := by
  refine hasL_app.mpr ⟨hasL_xw h1 (cp_xw (by omega) (oN_cl (by omega))) (by omega), fun k hk => ?_⟩
  rw [cp_at, oN_cl (by omega), oN_cl (by omega), if_pos (by omega), show (0 : Int32).toNatClampNeg = 0 from by decide, Nat.zero_add, Nat.zero_add, Nat.add_sub_cancel_left]
  exact hL0 h2 hk
theorem cp_g {i j a b p l : Nat} (hi : vB i a) (hj : vB j b) (h1 : l ≤ a) (h2 : p + l ≤ b) : (x_aB 4 i && x_aB 4 j && x_cB 0 (Int32.ofNat l) (x_ln i) && x_cB (Int32.ofNat p) (Int32.ofNat l) (x_ln j)) = true := by
  have i3 := hi.2.2
  have j3 := hj.2.2
  have c1 : x_cB 0 (Int32.ofNat l) a = true := cB_nn (p := 0) (by omega) (by omega)
  have c2 : x_cB (Int32.ofNat p) (Int32.ofNat l) b = true := cB_nn h2 (by omega)
  rw [hi.1, hj.1, hi.2.1, hj.2.1, c1, c2]; rfl
def rpL (l l2 : List Int32) : Nat → List Int32
  | 0 => []
  | k + 1 => rpL l l2 k ++ (if k = 0 then [] else l2) ++ l
theorem rp_len {l l2 : List Int32} : ∀ k, (rpL l l2 (k + 1)).length = (k + 1) * l.length + k * l2.length
  | 0 => by simp [rpL]
  | k + 1 => by
    rw [rpL, if_neg (by omega), List.length_append, List.length_append, rp_len k, Nat.succ_mul (k + 1), Nat.succ_mul k l2.length]
    omega
theorem rp_mono {l l2 : List Int32} : ∀ {d k : Nat}, (rpL l l2 k).length ≤ (rpL l l2 (k + d)).length
  | 0, _ => Nat.le_refl _
  | d + 1, k => by
    refine Nat.le_trans (rp_mono (d := d)) ?_
    rw [show k + (d + 1) = (k + d) + 1 from by omega, rpL, List.length_append, List.length_append]
    omega
theorem rp_le {l l2 : List Int32} {k m : Nat} (h : k ≤ m) : (rpL l l2 k).length ≤ (rpL l l2 m).length := by
  have := rp_mono (l := l) (l2 := l2) (d := m - k) (k := k)
  rw [show k + (m - k) = m from by omega] at this
  exact this
def rsL (l l2 : List Int32) (k : Nat) : List Int32 := if k = 0 then [] else rpL l l2 k ++ l2
theorem rs_l {l l2 : List Int32} {k : Nat} : rsL l l2 k ++ l = rpL l l2 (k + 1) := by
  rw [rsL, rpL]
  by_cases c : k = 0
  · subst c; simp [rpL]
  · rw [if_neg c, if_neg c]
theorem rx_lp {N : Nat} {l l2 : List Int32} {V : Nat} {v2 : Int64} (hv : v2.toInt = V) (V1 : V ≤ 100000) (hp : 0 < l.length + l2.length) (hl : l.length ≤ 4000) (hl2 : l2.length ≤ 4000) (hV : (rpL l l2 V).length ≤ 4000) : ∀ (c k n : Nat) (σ : mS), k + c + 1 = V → c + 1 < n → hasL (σ.2.2.1 522) 0 (rsL l l2 k) → hasL (σ.2.2.1 520) 0 l → hasL (σ.2.2.1 521) 0 l2 → ∃ τ, xx8_repeat_b108 N n (Int32.ofNat l.length) v2 (Int32.ofNat l2.length) (Int32.ofNat (rsL l l2 k).length) (Int32.toInt64 (Int32.ofNat k)) σ = xx8_repeat_b184 N (Int32.ofNat (rpL l l2 V).length) τ ∧ hasL (τ.2.2.1 522) 0 (rpL l l2 V) ∧ m_fr (fun k => k == 522) σ τ := by
  have z1 : (1 : Int64).toInt = 1 := rfl
  have c0 : ∀ k, k ≤ 100000 → (0 ≤ lg_cmp (Int32.toInt64 (Int32.ofNat k)) v2 ↔ V ≤ k) := fun k hk => by
    rw [lgc_ge, L_le, L_64, tI_lit (by omega), hv]; omega
  have c1 : ∀ k, k ≤ 100000 → (0 ≤ lg_cmp (Int32.toInt64 (Int32.ofNat k)) (v2 - 1) ↔ V ≤ k + 1) := fun k hk => by
    rw [lgc_ge, L_le, L_64, tI_lit (by omega), L_sub (by rw [hv, z1]; omega) (by rw [hv, z1]; omega), hv, z1]; omega
  have pos : ¬ Int32.ofNat l.length + Int32.ofNat l2.length ≤ 0 := fun q => by
    rw [oN_add, show (0 : Int32) = Int32.ofNat 0 from rfl, oN_le (by omega) (by omega)] at q; omega
  intro c
  induction c with
  | zero =>
    intro k n σ hk hn h1 h2 h3
    obtain ⟨n, rfl⟩ : ∃ j, n = j + 1 := ⟨n - 1, by omega⟩
    obtain ⟨n, rfl⟩ : ∃ j, n = j + 1 := ⟨n - 1, by omega⟩
    have le1 : (rsL l l2 k).length + l.length = (rpL l l2 V).length := by rw [← List.length_append, rs_l, show k + 1 = V from by omega]
    have ap := cp_app h1 h2 (by omega)
    rw [rs_l, show k + 1 = V from by omega] at ap
    refine ⟨_, ?_, ap, cp_fr⟩
    rw [xx8_repeat_b108, if_neg (fun q => by have := (c0 k (by omega)).mp q; omega), if_neg pos, cp_g vB_520 vB_522 (by omega) (by omega), gd_tt, lt, oN_add, le1, lt, if_pos ((c1 k (by omega)).mpr (by omega)), xx8_repeat_b175, lt, oL_s (by omega), xx8_repeat_b108, if_pos ((c0 _ (by omega)).mpr (by omega))]
  | succ c ih =>
    intro k n σ hk hn h1 h2 h3
    obtain ⟨n, rfl⟩ : ∃ j, n = j + 1 := ⟨n - 1, by omega⟩
    have le1 : (rsL l l2 k).length + l.length = (rpL l l2 (k + 1)).length := by rw [← List.length_append, rs_l]
    have le2 : (rpL l l2 (k + 1)).length + l2.length = (rsL l l2 (k + 1)).length := by rw [rsL, if_neg (by omega), List.length_append]
    have le3 : (rsL l l2 (k + 1)).length + l.length = (rpL l l2 (k + 2)).length := by rw [← List.length_append, rs_l]
    have le4 : (rpL l l2 (k + 2)).length ≤ (rpL l l2 V).length := rp_le (by omega)
    have ap := cp_app h1 h2 (by omega)
    rw [rs_l] at ap
    have fr1 := cp_fr (σ := σ) (i := 520) (j := 522) (sp := 0) (dp := Int32.ofNat (rsL l l2 k).length) (n := Int32.ofNat l.length)
    generalize e1 : x_cp σ 520 0 522 (Int32.ofNat (rsL l l2 k).length) (Int32.ofNat l.length) = σ1 at ap fr1
    have ap2 := cp_app ap (by rw [fr1.2.2.1 521 rfl]; exact h3) (by omega)
    have fr2 := cp_fr (σ := σ1) (i := 521) (j := 522) (sp := 0) (dp := Int32.ofNat (rpL l l2 (k + 1)).length) (n := Int32.ofNat l2.length)
    generalize e2 : x_cp σ1 521 0 522 (Int32.ofNat (rpL l l2 (k + 1)).length) (Int32.ofNat l2.length) = σ2 at ap2 fr2
    obtain ⟨τ, r1, r2, r3⟩ := ih (k + 1) n σ2 (by omega) (by omega) (by rw [rsL, if_neg (by omega)]; exact ap2) (by rw [fr2.2.2.1 520 rfl, fr1.2.2.1 520 rfl]; exact h2) (by rw [fr2.2.2.1 521 rfl, fr1.2.2.1 521 rfl]; exact h3)
    refine ⟨τ, ?_, r2, mf_tr fr1 (mf_tr fr2 r3)⟩
    rw [xx8_repeat_b108, if_neg (fun q => by have := (c0 k (by omega)).mp q; omega), if_neg pos, cp_g vB_520 vB_522 (by omega) (by omega), gd_tt, e1, lt, oN_add, le1, lt, if_neg (fun q => by have := (c1 k (by omega)).mp q; omega), cp_g vB_521 vB_522 (by omega) (by omega), gd_tt, e2, lt, oN_add, le2, lt, xx8_repeat_b175, lt, oL_s (by omega)]
    exact r1
theorem rm_t {N : Nat} {r : Int64 → Int64 → mS → Option mS} {v5 v7 : Int64} {l acc : List Int32} (len : l.length ≤ 4000) (al : acc.length ≤ 10000) : ∀ (c i n : Nat) (μ : mS), i + c = l.length → c < n → sF μ 224 = Int32.ofNat l.length → hasL (μ.2.2.1 223) 0 l → bufL μ (acc ++ l.take i) → ∃ τ, mm_repeat_187 N r n v5 v7 (Int32.ofNat i) μ = mm_repeat_213 N r v5 v7 τ ∧ bufL τ (acc ++ l) ∧ m_fr bK μ τ := by
  intro c
  induction c with
  | zero =>
    intro i n μ hi hn h224 h1 h2
    obtain ⟨n, rfl⟩ : ∃ j, n = j + 1 := ⟨n - 1, by omega⟩
    have e : i = l.length := by omega
    subst e
    refine ⟨μ, ?_, ?_, mf_rfl⟩
    · rw [mm_repeat_187, sF_fold, h224, if_pos (Int32.le_refl _)]
    · rw [List.take_length] at h2; exact h2
  | succ c ih =>
    intro i n μ hi hn h224 h1 h2
    obtain ⟨n, rfl⟩ : ∃ j, n = j + 1 := ⟨n - 1, by omega⟩
    obtain ⟨y, s1, s2, s3⟩ := put_m (N := N) (b := μ.2.2.1 223 i) h2 (by rw [List.length_append, List.length_take]; omega)
    rw [hL0 h1 (by omega), List.append_assoc, ← take_1 (by omega)] at s2
    obtain ⟨τ, r1, r2, r3⟩ := ih (i + 1) n y (by omega) (by omega) (by rw [mf_F s3 rfl]; exact h224) (by rw [s3.2.2.1 223 rfl]; exact h1) s2
    refine ⟨τ, ?_, r2, mf_tr s3 r3⟩
    have nle : ¬ Int32.ofNat l.length ≤ Int32.ofNat i := fun q => by rw [oN_le (by omega) (by omega)] at q; omega
    rw [mm_repeat_187, sF_fold, h224, if_neg nle, gd_oN (by omega) (by decide), oN_cl (by omega), s1, bd_so, lt, oN_s]
    exact r1
theorem rm_s {N : Nat} {r : Int64 → Int64 → mS → Option mS} {v5 v7 : Int64} {v9 : Int32} (h9 : v9 ≠ 0) {l acc : List Int32} (len : l.length ≤ 4000) (al : acc.length ≤ 10000) : ∀ (c i n : Nat) (μ : mS), i + c = l.length → c < n → sF μ 226 = Int32.ofNat l.length → hasL (μ.2.2.1 225) 0 l → bufL μ (acc ++ l.take i) → ∃ τ, mm_repeat_153 N r n v5 v7 v9 (Int32.ofNat i) μ = mm_repeat_184 N r v5 v7 τ ∧ bufL τ (acc ++ l) ∧ m_fr bK μ τ := by
  intro c
  induction c with
  | zero =>
    intro i n μ hi hn h224 h1 h2
    obtain ⟨n, rfl⟩ : ∃ j, n = j + 1 := ⟨n - 1, by omega⟩
    have e : i = l.length := by omega
    subst e
    refine ⟨μ, ?_, ?_, mf_rfl⟩
    · rw [mm_repeat_153, sF_fold, h224, if_pos (Int32.le_refl _), ite_self]
    · rw [List.take_length] at h2; exact h2
  | succ c ih =>
    intro i n μ hi hn h224 h1 h2
    obtain ⟨n, rfl⟩ : ∃ j, n = j + 1 := ⟨n - 1, by omega⟩
    obtain ⟨y, s1, s2, s3⟩ := put_m (N := N) (b := μ.2.2.1 225 i) h2 (by rw [List.length_append, List.length_take]; omega)
    rw [hL0 h1 (by omega), List.append_assoc, ← take_1 (by omega)] at s2
    obtain ⟨τ, r1, r2, r3⟩ := ih (i + 1) n y (by omega) (by omega) (by rw [mf_F s3 rfl]; exact h224) (by rw [s3.2.2.1 225 rfl]; exact h1) s2
    refine ⟨τ, ?_, r2, mf_tr s3 r3⟩
    have nle : ¬ Int32.ofNat l.length ≤ Int32.ofNat i := fun q => by rw [oN_le (by omega) (by omega)] at q; omega
    rw [mm_repeat_153, sF_fold, h224, if_neg h9, if_neg nle, gd_oN (by omega) (by decide), oN_cl (by omega), s1, bd_so, lt, oN_s]
    exact r1
theorem rm_lp {N : Nat} (big : 10000 < N) {l l2 : List Int32} {V : Nat} {v5 : Int64} (hv : v5.toInt = V) (V1 : V ≤ 100000) (hl : l.length ≤ 4000) (hl2 : l2.length ≤ 4000) : ∀ (c k n : Nat) (μ : mS), k + c = V → c < n → sF μ 224 = Int32.ofNat l.length → sF μ 226 = Int32.ofNat l2.length → hasL (μ.2.2.1 223) 0 l → hasL (μ.2.2.1 225) 0 l2 → bufL μ (rpL l l2 k) → (rpL l l2 k).length ≤ 4000 → ∃ τ, mm_repeat_79 N n v5 (Int32.toInt64 (Int32.ofNat k)) μ = mm_repeat_222 N τ ∧ m_fr bK μ τ ∧ (((rpL l l2 V).length ≤ 4000 ∧ bufL τ (rpL l l2 V)) ∨ (4000 < (rpL l l2 V).length ∧ sF τ 17 = 4001)) := by
  have z0 : (0 : Int64).toInt = 0 := rfl
  have c0 : ∀ k, k ≤ 100000 → (0 ≤ lg_cmp (Int32.toInt64 (Int32.ofNat k)) v5 ↔ V ≤ k) := fun k hk => by
    rw [lgc_ge, L_le, L_64, tI_lit (by omega), hv]; omega
  have c1 : ∀ k, k ≤ 100000 → (lg_cmp (Int32.toInt64 (Int32.ofNat k)) 0 ≤ 0 ↔ k = 0) := fun k hk => by
    rw [lgc_le, L_le, L_64, tI_lit (by omega), z0]; omega
  intro c
  induction c with
  | zero =>
    intro k n μ hk hn h1 h2 h3 h4 hb hlen
    obtain ⟨n, rfl⟩ : ∃ j, n = j + 1 := ⟨n - 1, by omega⟩
    have e : k = V := by omega
    subst e
    exact ⟨μ, by rw [mm_repeat_79, if_pos ((c0 k (by omega)).mpr (by omega))], mf_rfl, .inl ⟨hlen, hb⟩⟩
  | succ c ih =>
    intro k n μ hk hn h1 h2 h3 h4 hb hlen
    obtain ⟨n, rfl⟩ : ∃ j, n = j + 1 := ⟨n - 1, by omega⟩
    have n40 : ¬ (4000 : Int32) < Int32.ofNat (rpL l l2 k).length := fun q => by
      rw [show (4000 : Int32) = Int32.ofNat 4000 from rfl, oN_lt (by omega) (by omega)] at q; omega
    have le : (rpL l l2 (k + 1)).length = (rpL l l2 k).length + (if k = 0 then [] else l2).length + l.length := by
      rw [rpL, List.length_append, List.length_append]
    have il : (if k = 0 then ([] : List Int32) else l2).length ≤ 4000 := by
      by_cases q : k = 0
      · rw [if_pos q]; simp
      · rw [if_neg q]; exact hl2
    have recu : ∀ (τ : mS) (b : Bool), (b = true ∧ sF τ 17 = 4001 ∧ 4000 < (rpL l l2 (k + 1)).length ∨ b = false ∧ bufL τ (rpL l l2 (k + 1)) ∧ (rpL l l2 (k + 1)).length ≤ 4000) → m_fr bK μ τ → ∃ τ', mm_repeat_213 N (mm_repeat_79 N n) v5 (Int32.toInt64 (Int32.ofNat k)) τ = mm_repeat_222 N τ' ∧ m_fr bK μ τ' ∧ (((rpL l l2 V).length ≤ 4000 ∧ bufL τ' (rpL l l2 V)) ∨ (4000 < (rpL l l2 V).length ∧ sF τ' 17 = 4001)) := fun τ b o fr => by
      rcases o with ⟨_, o1, o2⟩ | ⟨_, o1, o2⟩
      · obtain ⟨n, rfl⟩ : ∃ j, n = j + 1 := ⟨n - 1, by omega⟩
        have := rp_le (l := l) (l2 := l2) (show k + 1 ≤ V by omega)
        refine ⟨τ, ?_, fr, .inr ⟨by omega, o1⟩⟩
        rw [mm_repeat_213, lt, oL_s (by omega), mm_repeat_79, sF_fold, o1, if_pos (show (4000 : Int32) < 4001 by decide), ite_self]
      · obtain ⟨τ', r1, r2, r3⟩ := ih (k + 1) n τ (by omega) (by omega) (by rw [mf_F fr rfl]; exact h1) (by rw [mf_F fr rfl]; exact h2) (by rw [fr.2.2.1 223 rfl]; exact h3) (by rw [fr.2.2.1 225 rfl]; exact h4) o1 o2
        refine ⟨τ', ?_, mf_tr fr r2, r3⟩
        rw [mm_repeat_213, lt, oL_s (by omega)]; exact r1
    have b17 : sF μ 17 = Int32.ofNat (rpL l l2 k).length := hb.1
    have nV : ¬ 0 ≤ lg_cmp (Int32.toInt64 (Int32.ofNat k)) v5 := fun q => by have := (c0 k (by omega)).mp q; omega
    have tail : ∀ (τ : mS), m_fr bK μ τ → bufL τ (rpL l l2 k ++ (if k = 0 then [] else l2)) → (rpL l l2 (k + 1)).length ≤ 4000 → ∃ τ', mm_repeat_184 N (mm_repeat_79 N n) v5 (Int32.toInt64 (Int32.ofNat k)) τ = mm_repeat_222 N τ' ∧ m_fr bK μ τ' ∧ (((rpL l l2 V).length ≤ 4000 ∧ bufL τ' (rpL l l2 V)) ∨ (4000 < (rpL l l2 V).length ∧ sF τ' 17 = 4001)) := fun τ fr hb' hl' => by
      obtain ⟨y, s1, s2, s3⟩ := rm_t (N := N) (r := mm_repeat_79 N n) (v5 := v5) (v7 := Int32.toInt64 (Int32.ofNat k)) (acc := rpL l l2 k ++ (if k = 0 then [] else l2)) hl (by rw [List.length_append]; omega) l.length 0 N τ (by omega) (by omega) (by rw [mf_F fr rfl]; exact h1) (by rw [fr.2.2.1 223 rfl]; exact h3) (by rw [List.take_zero, List.append_nil]; exact hb')
      obtain ⟨τ', t1, t2, t3⟩ := recu y false (.inr ⟨rfl, s2, hl'⟩) (mf_tr fr s3)
      exact ⟨τ', s1.trans t1, t2, t3⟩
    have c40 : Int32.ofNat (rpL l l2 k).length + Int32.ofNat l.length + Int32.ofNat (if k = 0 then ([] : List Int32) else l2).length ≤ 4000 ↔ (rpL l l2 (k + 1)).length ≤ 4000 := by
      rw [oN_add, oN_add, show (4000 : Int32) = Int32.ofNat 4000 from rfl, oN_le (by omega) (by omega), le]; omega
    have over : ¬ (rpL l l2 (k + 1)).length ≤ 4000 → ∃ τ', mm_repeat_213 N (mm_repeat_79 N n) v5 (Int32.toInt64 (Int32.ofNat k)) (md_pi μ 17 4001) = mm_repeat_222 N τ' ∧ m_fr bK μ τ' ∧ (((rpL l l2 V).length ≤ 4000 ∧ bufL τ' (rpL l l2 V)) ∨ (4000 < (rpL l l2 V).length ∧ sF τ' 17 = 4001)) := fun q => recu _ true (.inl ⟨rfl, by simp only [sF_pi, sF_pl, sF_ai, sF_al, sG_pi, sG_pl, sG_ai, sG_al, sI_pi, sI_pl, sI_al, sI_ai1, sI_ai2, sJ_pi, sJ_pl, sJ_ai, sJ_al1, sJ_al2, Nat.reduceEqDiff, if_true, if_false, ne_eq, not_false_eq_true, ite_true, ite_false], by omega⟩) (mf_pi mf_rfl rfl)
    rw [mm_repeat_79, if_neg nV, sF_fold, b17, if_neg n40]
    by_cases k0 : k = 0
    · subst k0
      rw [if_pos ((c1 0 (by omega)).mpr rfl), mm_repeat_109, if_pos rfl, sF_fold, sF_fold, b17, h1, mm_repeat_133]
      have c40' : Int32.ofNat (rpL l l2 0).length + Int32.ofNat l.length + 0 ≤ 4000 ↔ (rpL l l2 (0 + 1)).length ≤ 4000 := c40
      by_cases q : (rpL l l2 (0 + 1)).length ≤ 4000
      · obtain ⟨N', hN'⟩ : ∃ j, N = j + 1 := ⟨N - 1, by omega⟩
        have e153 : mm_repeat_153 N (mm_repeat_79 N n) N v5 (Int32.toInt64 (Int32.ofNat 0)) 0 0 μ = mm_repeat_184 N (mm_repeat_79 N n) v5 (Int32.toInt64 (Int32.ofNat 0)) μ := by
          conv => lhs; arg 3; rw [hN']
          rw [mm_repeat_153, if_pos rfl]
        rw [if_pos (c40'.mpr q), e153]
        exact tail μ mf_rfl (by rw [if_pos rfl, List.append_nil]; exact hb) q
      · rw [if_neg (fun h => q (c40'.mp h)), lt]
        exact over q
    · rw [if_neg (fun q => k0 ((c1 k (by omega)).mp q)), mm_repeat_109, if_neg (show ¬ (1 : Int32) = 0 by decide), sF_fold, sF_fold, sF_fold, b17, h1, h2, mm_repeat_133]
      rw [if_neg k0] at c40
      by_cases q : (rpL l l2 (k + 1)).length ≤ 4000
      · obtain ⟨y, s1, s2, s3⟩ := rm_s (N := N) (r := mm_repeat_79 N n) (v5 := v5) (v7 := Int32.toInt64 (Int32.ofNat k)) (v9 := 1) (by decide) (l := l2) (acc := rpL l l2 k) hl2 (by omega) l2.length 0 N μ (by omega) (by omega) h2 h4 (by rw [List.take_zero, List.append_nil]; exact hb)
        obtain ⟨τ', t1, t2, t3⟩ := tail y s3 (by rw [if_neg k0]; exact s2) q
        have s1' : mm_repeat_153 N (mm_repeat_79 N n) N v5 (Int32.toInt64 (Int32.ofNat k)) 1 0 μ = mm_repeat_184 N (mm_repeat_79 N n) v5 (Int32.toInt64 (Int32.ofNat k)) y := s1
        refine ⟨τ', ?_, t2, t3⟩
        rw [if_pos (c40.mpr q), s1', t1]
      · rw [if_neg (fun h => q (c40.mp h)), lt]
        exact over q
