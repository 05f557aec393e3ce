/-! LAYER 2: digits of numbers on both sides -/
/-- d digits of m, the highest first -/
def dgT : Nat → Nat → List Int32
  | 0, _ => []
  | d + 1, m => Int32.ofNat (48 + m / 10 ^ d % 10) :: dgT d m
theorem dgT_len : ∀ {d m : Nat}, (dgT d m).length = d
  | 0, _ => rfl
  | d + 1, m => by simp only [dgT, List.length_cons, dgT_len]
theorem dgT_s : ∀ {d m : Nat}, dgT (d + 1) m = dgT d (m / 10) ++ [Int32.ofNat (48 + m % 10)]
  | 0, m => by simp only [dgT, Nat.pow_zero, Nat.div_one, List.nil_append]
  | d + 1, m => by
    rw [dgT, dgT_s (d := d) (m := m), dgT, List.cons_append]
    congr 3
    rw [Nat.div_div_eq_div_mul, Nat.pow_succ, Nat.mul_comm]
/-- how many digits a number has -/
def isDn (m d : Nat) : Prop := 1 ≤ d ∧ m < 10 ^ d ∧ (d = 1 ∨ 10 ^ (d - 1) ≤ m)
theorem isDn_one {m d e : Nat} (h : isDn m d) (h' : isDn m e) : d = e := by
  obtain ⟨a1, a2, a3⟩ := h
  obtain ⟨b1, b2, b3⟩ := h'
  rcases Nat.lt_trichotomy d e with c | c | c
  · have := Nat.pow_le_pow_right (show 0 < 10 by decide) (show d ≤ e - 1 by omega)
    omega
  · exact c
  · have := Nat.pow_le_pow_right (show 0 < 10 by decide) (show e ≤ d - 1 by omega)
    omega
theorem isDn_s {m d : Nat} (h : isDn (m / 10) d) (hm : 10 ≤ m) : isDn m (d + 1) := by
  obtain ⟨a1, a2, a3⟩ := h
  refine ⟨by omega, ?_, .inr ?_⟩
  · rw [Nat.pow_succ]; omega
  · rcases a3 with a3 | a3
    · subst a3; simpa using hm
    · have e : 10 ^ (d + 1 - 1) = 10 ^ (d - 1) * 10 := by
        rw [← Nat.pow_succ]; congr 1; omega
      rw [e]; omega
theorem isDn_ex : ∀ (f m : Nat), m < 10 ^ (f + 1) → ∃ d, isDn m d ∧ d ≤ f + 1
  | 0, m, h => ⟨1, ⟨by decide, h, .inl rfl⟩, by decide⟩
  | f + 1, m, h => by
    by_cases c : m < 10
    · exact ⟨1, ⟨by decide, c, .inl rfl⟩, by omega⟩
    · obtain ⟨d, h1, h2⟩ := isDn_ex f (m / 10) (by rw [Nat.pow_succ] at h; omega)
      exact ⟨d + 1, isDn_s h1 (by omega), by omega⟩
/-- the text of a number -/
def numT (v : Int64) (l : List Int32) : Prop := ∃ d, isDn v.toInt.natAbs d ∧ l = (if v < 0 then [45] else []) ++ dgT d v.toInt.natAbs
theorem numT_one {v : Int64} {l l' : List Int32} (h : numT v l) (h' : numT v l') : l = l' := by
  obtain ⟨d, a, rfl⟩ := h
  obtain ⟨e, b, rfl⟩ := h'
  rw [isDn_one a b]
theorem l_rng (v : Int64) : -9223372036854775808 ≤ v.toInt ∧ v.toInt < 9223372036854775808 := ⟨Int64.le_toInt v, Int64.toInt_lt v⟩
theorem numT_len {v : Int64} {l : List Int32} (h : numT v l) : 1 ≤ l.length ∧ l.length ≤ 20 := by
  obtain ⟨d, a, rfl⟩ := h
  have r := l_rng v
  obtain ⟨e, b, c⟩ := isDn_ex 18 v.toInt.natAbs (by omega)
  have := isDn_one a b
  rw [List.length_append, dgT_len]
  have := a.1
  split <;> simp <;> omega
theorem numT_ex (v : Int64) : ∃ l, numT v l := by
  have r := l_rng v
  obtain ⟨e, b, c⟩ := isDn_ex 18 v.toInt.natAbs (by omega)
  exact ⟨_, e, b, rfl⟩
theorem td_n {x : Int} {c : Nat} : (x.tdiv c).natAbs = x.natAbs / c := by rw [Int.natAbs_tdiv]; rfl
theorem tm_n {x : Int} {c : Nat} : (x.tmod c).natAbs = x.natAbs % c := by rw [Int.natAbs_tmod]; rfl
theorem l_div {r t : Int64} {c : Nat} (ht : t.toInt = c) (hc : 0 < c) : (r / t).toInt = r.toInt.tdiv c := by
  have h := l_rng r
  rw [Int64.toInt_div, ht]
  have := @td_n r.toInt c
  have q := Nat.div_le_self r.toInt.natAbs c
  have h2 : 0 ≤ r.toInt → 0 ≤ r.toInt.tdiv c := fun q => Int.tdiv_nonneg q (by omega)
  have h3 : r.toInt ≤ 0 → r.toInt.tdiv c ≤ 0 := fun q => by
    have a1 := Int.tdiv_nonneg (a := -r.toInt) (b := c) (by omega) (by omega)
    rw [Int.neg_tdiv] at a1
    omega
  exact Int.bmod_eq_of_le (by omega) (by omega)
theorem t10 {r : Int64} : (r / 10).toInt = r.toInt.tdiv 10 ∧ (r - r / 10 * 10).toInt = r.toInt.tmod 10 := by
  have h := l_rng r
  have z : (10 : Int64).toInt = 10 := rfl
  have e1 : (r / 10).toInt = r.toInt.tdiv 10 := l_div (c := 10) z (by decide)
  refine ⟨e1, ?_⟩
  rw [Int64.toInt_sub, Int64.toInt_mul, e1, z]
  have n1 := @td_n r.toInt 10
  have n2 := @tm_n r.toInt 10
  have n3 := Int.mul_tdiv_add_tmod r.toInt 10
  simp only [Int.cast_ofNat_Int] at n1 n2
  have e2 : (r.toInt.tdiv 10 * 10).bmod (2 ^ 64) = r.toInt.tdiv 10 * 10 := Int.bmod_eq_of_le (by omega) (by omega)
  rw [e2]
  have e3 : r.toInt - r.toInt.tdiv 10 * 10 = r.toInt.tmod 10 := by omega
  rw [e3]
  exact Int.bmod_eq_of_le (by omega) (by omega)
theorem t10n {r : Int64} : (r / 10).toInt.natAbs = r.toInt.natAbs / 10 ∧ (r - r / 10 * 10).toInt.natAbs = r.toInt.natAbs % 10 := by
  rw [t10.1, t10.2]
  exact ⟨td_n (c := 10), tm_n (c := 10)⟩
theorem ll_32 {r : Int64} (h : r.toInt.natAbs < 2147483648) : r.toInt32.toInt = r.toInt := by
  rw [Int64.toInt_toInt32]
  exact Int.bmod_eq_of_le (by omega) (by omega)
theorem ab_x {N : Nat} {σ : mS} {a : Int32} (h : a.toInt ≠ -2147483648) : xj8_abs N σ a = some (Int32.ofNat a.toInt.natAbs, σ) := by
  have q := tI_rng a
  have z : (0 : Int32).toInt = 0 := rfl
  by_cases c : 0 ≤ a
  · rw [xj8_abs, if_pos c, xj8_abs_b10]
    rw [tI_le, z] at c
    congr 2
    rw [tI_eq, tI_lit (by omega)]
    omega
  · rw [xj8_abs, if_neg c, xj8_abs_b10]
    rw [tI_le, z] at c
    congr 2
    rw [tI_eq, tI_lit (by omega), Int32.toInt_neg]
    rw [Int.bmod_eq_of_le (by omega) (by omega)]
    omega
theorem oN_48 {k : Nat} (h : k < 10) : (vp_nar .byte ((Int32.toInt8 (48 + Int32.ofNat k)).toInt32)) &&& 255 = Int32.ofNat (48 + k) := by
  have : ∀ i : Fin 10, (vp_nar .byte ((Int32.toInt8 (48 + Int32.ofNat i.val)).toInt32)) &&& 255 = Int32.ofNat (48 + i.val) := by decide +kernel
  exact this ⟨k, h⟩
theorem dig_b25 {N v L : Nat} (hv : x_aB 4 v = true) (hL : x_ln v = L) (L2 : L < 2147483648) (f : Nat) : ∀ (n d : Nat) (r : Int64) (a : Nat) (σ : mS) (l : List Int32), isDn r.toInt.natAbs d → d ≤ n → a + l.length + d ≤ L → hasL (σ.2.2.1 v) a l → ∃ τ, xx6_digits_b25 N n v (Int32.ofNat (a + l.length)) (Int32.ofNat a) r σ = xx6_digits_b75 N N v (Int32.ofNat (a + l.length + d)) (Int32.ofNat a) (Int32.ofNat (a + l.length + d) - 1) τ ∧ hasL (τ.2.2.1 v) a (l ++ (dgT d r.toInt.natAbs).reverse) ∧ xw v (a + l.length) d σ τ := by
  intro n
  induction n with
  | zero => intro d r a σ l hd h; have := hd.1; omega
  | succ n ih =>
    intro d r a σ l hd hn ha hl
    have d1 := hd.1
    have m1 := (t10n (r := r)).2
    have m2 : (r - r / 10 * 10).toInt32.toInt = (r - r / 10 * 10).toInt := ll_32 (by omega)
    have g2 : inB (Int32.ofNat (a + l.length)) (x_ln v) = true := tI_in (by rw [tI_lit (by omega)]; omega) (by rw [tI_lit (by omega), hL]; omega)
    have g0 : (!decide ((10 : Int64) = 0)) = true := by decide
    rw [xx6_digits_b25, g0]
    simp only [gd, lt, ab_x (N := N) (σ := σ) (a := (r - r / 10 * 10).toInt32) (by omega), bd, hv, g2, oN_s, oN_cl (show a + l.length < 2147483648 by omega), m2, m1]
    have x1 : xw v (a + l.length) 1 σ (md_ai σ v (a + l.length) (vp_nar .byte ((Int32.toInt8 (48 + Int32.ofNat (r.toInt.natAbs % 10))).toInt32))) := xw_ai rfl
    have hl1 : hasL ((md_ai σ v (a + l.length) (vp_nar .byte ((Int32.toInt8 (48 + Int32.ofNat (r.toInt.natAbs % 10))).toInt32))).2.2.1 v) a (l ++ [Int32.ofNat (48 + r.toInt.natAbs % 10)]) := by
      rw [hasL_app]
      refine ⟨hasL_xw hl x1 (by omega), hasL_one ?_⟩
      rw [ai_I, if_pos rfl, upd_at, if_pos rfl]
      exact oN_48 (by omega)
    generalize md_ai σ v (a + l.length) (vp_nar .byte ((Int32.toInt8 (48 + Int32.ofNat (r.toInt.natAbs % 10))).toInt32)) = σ1 at *
    have ze : lg_cmp (r / 10) 0 = 0 ↔ r.toInt.natAbs < 10 := by
      rw [lgc_eq, ← Int64.toInt_inj]
      have := (t10n (r := r)).1
      have z : (0 : Int64).toInt = 0 := rfl
      omega
    by_cases c : r.toInt.natAbs < 10
    · rw [if_pos (ze.mpr c)]
      have : d = 1 := isDn_one hd ⟨by decide, c, .inl rfl⟩
      subst this
      refine ⟨σ1, rfl, ?_, x1⟩
      simp only [dgT, Nat.pow_zero, Nat.div_one, List.reverse_singleton]
      exact hl1
    · rw [if_neg (fun q => c (ze.mp q))]
      obtain ⟨e, he, _⟩ := isDn_ex 18 (r / 10).toInt.natAbs (by have := l_rng (r / 10); omega)
      have e1 := he
      rw [(t10n (r := r)).1] at e1
      have de : d = e + 1 := isDn_one hd (isDn_s e1 (by omega))
      subst de
      obtain ⟨τ, f1, f2, f3⟩ := ih e (r / 10) a σ1 (l ++ [Int32.ofNat (48 + r.toInt.natAbs % 10)]) he (by omega) (by rw [List.length_append, List.length_singleton]; omega) hl1
      rw [List.length_append, List.length_singleton, ← Nat.add_assoc] at f1 f3
      refine ⟨τ, ?_, ?_, ?_⟩
      · rw [f1]
        congr 1
        · congr 1; omega
        · congr 2; omega
      · rw [dgT_s, List.reverse_append, List.reverse_singleton, ← (t10n (r := r)).1]
        simpa using f2
      · rw [show e + 1 = 1 + e by omega]
        exact xw_tr x1 f3
theorem dig_b75 {N v L : Nat} (hv : x_aB 4 v = true) (hL : x_ln v = L) (L2 : L < 2147483648) {e : Int32} : ∀ (n p : Nat) (A M B : List Int32) (σ : mS), M.length < 2 * n → p + A.length + M.length + B.length ≤ L → hasL (σ.2.2.1 v) p (A ++ M ++ B) → ∃ τ, xx6_digits_b75 N n v e (Int32.ofNat (p + A.length)) (Int32.ofNat (p + A.length + M.length) - 1) σ = some (e, τ) ∧ hasL (τ.2.2.1 v) p (A ++ M.reverse ++ B) ∧ xw v p (A.length + M.length) σ τ := by
  intro n
  induction n with
  | zero => intro p A M B σ h; omega
  | succ n ih =>
    intro p A M B σ hn hp h
    rw [xx6_digits_b75]
    have s1 : (Int32.ofNat (p + A.length + M.length) - 1).toInt = p + A.length + M.length - 1 := by
      rw [tI_sub] <;> rw [tI_lit (by omega)] <;> simp only [show (1 : Int32).toInt = 1 from rfl] <;> omega
    by_cases c : M.length ≤ 1
    · rw [if_pos (by rw [tI_le, s1, tI_lit (by omega)]; omega)]
      refine ⟨σ, rfl, ?_, xw_rfl⟩
      have : M.reverse = M := by
        match M, c with
        | [], _ => rfl
        | [_], _ => rfl
      rw [this]; exact h
    · rw [if_neg (by rw [tI_le, s1, tI_lit (by omega)]; omega)]
      have s2 : Int32.ofNat (p + A.length + M.length) - 1 = Int32.ofNat (p + A.length + M.length - 1) := by
        rw [tI_eq, s1, tI_lit (by omega)]; omega
      rw [s2]
      -- first and last
      obtain ⟨x, M1, rfl⟩ : ∃ x M1, M = x :: M1 := by
        cases M with
        | nil => simp at c
        | cons x M1 => exact ⟨x, M1, rfl⟩
      obtain ⟨M2, y, rfl⟩ : ∃ M2 y, M1 = M2 ++ [y] := by
        have : M1 ≠ [] := fun q => by subst q; simp at c
        exact ⟨M1.dropLast, M1.getLast this, (List.dropLast_concat_getLast this).symm⟩
      simp only [List.length_cons, List.length_append, List.length_nil] at *
      have i1 : inB (Int32.ofNat (p + A.length)) (x_ln v) = true := tI_in (by rw [tI_lit (by omega)]; omega) (by rw [tI_lit (by omega), hL]; omega)
      have i2 : inB (Int32.ofNat (p + A.length + (M2.length + (0 + 1) + 1) - 1)) (x_ln v) = true := tI_in (by rw [tI_lit (by omega)]; omega) (by rw [tI_lit (by omega), hL]; omega)
      simp only [hv, i1, i2, gd, lt, oN_s, oN_cl (show p + A.length < 2147483648 by omega), oN_cl (show p + A.length + (M2.length + (0 + 1) + 1) - 1 < 2147483648 by omega)]
      have s3 : Int32.ofNat (p + A.length + (M2.length + (0 + 1) + 1) - 1) + (-1) = Int32.ofNat (p + (A.length + 1) + M2.length) - 1 := by
        have : Int32.ofNat (p + A.length + (M2.length + (0 + 1) + 1) - 1) = Int32.ofNat (p + (A.length + 1) + M2.length) := by congr 1; omega
        rw [this]; lia
      rw [s3]
      generalize hq : p + A.length + (M2.length + (0 + 1) + 1) - 1 = q
      have hq' : q = p + A.length + 1 + M2.length := by omega
      have hA : hasL (σ.2.2.1 v) p A ∧ σ.2.2.1 v (p + A.length) &&& 255 = x ∧ hasL (σ.2.2.1 v) (p + A.length + 1) M2 ∧ σ.2.2.1 v q &&& 255 = y ∧ hasL (σ.2.2.1 v) (q + 1) B := by
        rw [hasL_app, hasL_app] at h
        obtain ⟨⟨h1, h2⟩, h3⟩ := h
        have e1 : x :: (M2 ++ [y]) = [x] ++ (M2 ++ [y]) := rfl
        rw [e1, hasL_app, hasL_app] at h2
        obtain ⟨h4, h5, h6⟩ := h2
        refine ⟨h1, h4 0 (by simp), h5, ?_, ?_⟩
        · have := h6 0 (by simp)
          simp only [List.length_singleton, Nat.add_zero] at this
          rw [hq']; exact this
        · simp only [List.length_append, List.length_cons, List.length_nil] at h3
          have : q + 1 = p + (A.length + (M2.length + (0 + 1) + 1)) := by omega
          rw [this]; exact h3
      obtain ⟨h1, h2, h3, h4, h5⟩ := hA
      have fr : ∀ z1 z2 : Int32, m_fr (fun k => k == v) σ (md_ai (md_ai σ v (p + A.length) z1) v q z2) := fun z1 z2 => mf_ai (mf_ai mf_rfl (by simp)) (by simp)
      have rd : ∀ (z1 z2 : Int32) (k : Nat), (md_ai (md_ai σ v (p + A.length) z1) v q z2).2.2.1 v k = if k = q then z2 else if k = p + A.length then z1 else σ.2.2.1 v k := fun z1 z2 k => by
        rw [ai_I, if_pos rfl, upd_at]
        by_cases ck : k = q
        · rw [if_pos ck, if_pos ck]
        · rw [if_neg ck, if_neg ck, ai_I, if_pos rfl, upd_at]
      obtain ⟨τ, f1, f2, f3⟩ := ih p (A ++ [y]) M2 (x :: B) (md_ai (md_ai σ v (p + A.length) (vp_nar .byte (σ.2.2.1 v q))) v q (vp_nar .byte (σ.2.2.1 v (p + A.length)))) (by omega) (by simp only [List.length_append, List.length_cons, List.length_nil]; omega) (by
        rw [hasL_app, hasL_app, hasL_app]
        have e1 : x :: B = [x] ++ B := rfl
        rw [e1, hasL_app]
        simp only [List.length_append, List.length_cons, List.length_nil]
        refine ⟨⟨⟨hasL_congr h1 (fun k k0 k1 => by rw [rd, if_neg (by omega), if_neg (by omega)]), hasL_one ?_⟩, ?_⟩, hasL_one ?_, ?_⟩
        · rw [rd, if_neg (by omega), if_pos rfl, b_mask]; exact h4
        · have e2 : p + (A.length + (0 + 1)) = p + A.length + 1 := by omega
          rw [e2]
          exact hasL_congr h3 (fun k k0 k1 => by rw [rd, if_neg (by omega), if_neg (by omega)])
        · rw [rd, if_pos (by omega), b_mask]; exact h2
        · have e2 : p + (A.length + (0 + 1) + M2.length) + (0 + 1) = q + 1 := by omega
          rw [e2]
          exact hasL_congr h5 (fun k k0 k1 => by rw [rd, if_neg (by omega), if_neg (by omega)]))
      simp only [List.length_append, List.length_cons, List.length_nil] at f1 f2 f3
      refine ⟨τ, f1, ?_, mf_tr (fr _ _) f3.1, fun k hk => ?_⟩
      · simpa using f2
      · rw [f3.2 k (by omega), rd, if_neg (by omega), if_neg (by omega)]
theorem digits_x {N : Nat} (hN : BIG ≤ N) {v L p : Nat} {σ : mS} {r : Int64} {t : List Int32} (ht : numT r t) (hv : x_aB 4 v = true) (hL : x_ln v = L) (L2 : L < 2147483648) (hp : p + t.length ≤ L) : ∃ τ, xx6_digits N σ r v (Int32.ofNat p) = some (Int32.ofNat (p + t.length), τ) ∧ hasL (τ.2.2.1 v) p t ∧ xw v p t.length σ τ := by
  obtain ⟨d, hd, rfl⟩ := ht
  have d20 := numT_len ⟨d, hd, rfl⟩
  rw [List.length_append, dgT_len] at d20 hp
  have hd1 := hd.1
  have key : ∀ (a : Nat) (σ : mS), a + d ≤ L → ∃ τ, xx6_digits_b18 N r v (Int32.ofNat a) σ = some (Int32.ofNat (a + d), τ) ∧ hasL (τ.2.2.1 v) a (dgT d r.toInt.natAbs) ∧ xw v a d σ τ := fun a σ ha => by
    obtain ⟨τ, f1, f2, f3⟩ := dig_b25 (N := N) hv hL L2 0 N d r a σ [] hd (by simp only [BIG] at hN; omega) (by simp only [List.length_nil]; omega) hasL_nil
    simp only [List.length_nil, Nat.add_zero, List.nil_append] at f1 f2 f3
    obtain ⟨υ, g1, g2, g3⟩ := dig_b75 (N := N) (e := Int32.ofNat (a + d)) hv hL L2 N a [] (dgT d r.toInt.natAbs).reverse [] τ (by rw [List.length_reverse, dgT_len]; simp only [BIG] at hN; omega) (by simp only [List.length_reverse, dgT_len, List.length_nil]; omega) (by simpa using f2)
    simp only [List.length_reverse, dgT_len, List.length_nil, Nat.add_zero, List.nil_append, List.reverse_reverse, List.append_nil, Nat.zero_add] at g1 g2 g3
    refine ⟨υ, ?_, g2, mf_tr f3.1 g3.1, fun k hk => by rw [g3.2 k hk, f3.2 k hk]⟩
    rw [xx6_digits_b18, f1]
    exact g1
  by_cases c : r < 0
  · have nc : ¬ 0 ≤ lg_cmp r 0 := fun q => by rw [lgc_ge] at q; lia
    simp only [if_pos c, List.length_singleton] at hp ⊢
    have g2 : inB (Int32.ofNat p) (x_ln v) = true := tI_in (by rw [tI_lit (by omega)]; omega) (by rw [tI_lit (by omega), hL]; omega)
    rw [xx6_digits, if_neg nc]
    simp only [lt, hv, g2, gd, oN_s, oN_cl (show p < 2147483648 by omega)]
    have x1 : xw v p 1 σ (md_ai σ v p (vp_nar .byte 45)) := xw_ai rfl
    have h1 : hasL ((md_ai σ v p (vp_nar .byte 45)).2.2.1 v) p [45] := hasL_one (by rw [ai_I, if_pos rfl, upd_at, if_pos rfl, b_mask]; rfl)
    obtain ⟨τ, f1, f2, f3⟩ := key (p + 1) (md_ai σ v p (vp_nar .byte 45)) (by omega)
    have e1 : p + 1 + d = p + (1 + d) := by omega
    rw [e1] at f1
    refine ⟨τ, by rw [f1, List.length_append, dgT_len]; rfl, hasL_app.mpr ⟨hasL_xw h1 f3 (by simp), f2⟩, ?_⟩
    rw [List.length_append, dgT_len]
    exact xw_tr x1 f3
  · have nc : 0 ≤ lg_cmp r 0 := by rw [lgc_ge]; lia
    simp only [if_neg c, List.nil_append, List.length_nil, Nat.zero_add] at hp ⊢
    rw [xx6_digits, if_pos nc, dgT_len]
    exact key p σ (by omega)
/-- the reference's digits: ten is 10 ^ d, w below 0 -/
theorem l_ten : ∀ d : Nat, d ≤ 18 → ∃ t : Int64, t.toInt = ((10 ^ d : Nat) : Int)
  | d, h => ⟨Int64.ofNat (10 ^ d), by
    have := Nat.pow_le_pow_right (show 0 < 10 by decide) h
    rw [Int64.toInt_ofNat_of_lt (by omega)]⟩
theorem neg_td {w : Int64} {m c : Nat} (hw : w.toInt = -(m : Int)) : w.toInt.tdiv c = -((m / c : Nat) : Int) := by
  rw [hw, Int.neg_tdiv]
  rfl
theorem pn_57 {N : Nat} {w : Int64} {m : Nat} (hw : w.toInt = -(m : Int)) : ∀ (n d e : Nat) (t : Int64) (μ : mS) (l : List Int32), d ≤ 19 → e ≤ d → (e = 0 ∨ t.toInt = ((10 ^ (e - 1) : Nat) : Int)) → e < n → bufL μ l → l.length + e < 1000000 → ∃ τ, mm_putNumber_57 N n t w (Int32.ofNat d) (Int32.ofNat (d - e)) μ = some τ ∧ bufL τ (l ++ dgT e m) ∧ m_fr bK μ τ := by
  intro n
  induction n with
  | zero => intro d e t μ l _ _ _ h; omega
  | succ n ih =>
    intro d e t μ l hd he ht hn hb hl
    rw [mm_putNumber_57]
    by_cases c : e = 0
    · subst c
      rw [if_pos (by rw [oN_le (by omega) (by omega)]; omega)]
      exact ⟨μ, rfl, by simpa [dgT] using hb, mf_rfl⟩
    · rw [if_neg (by rw [oN_le (by omega) (by omega)]; omega)]
      have ht' : t.toInt = ((10 ^ (e - 1) : Nat) : Int) := by
        rcases ht with q | q
        · exact absurd q c
        · exact q
      have p1 : 0 < 10 ^ (e - 1) := Nat.pow_pos (by decide)
      have t0 : (!decide (t = 0)) = true := by
        rw [Bool.not_eq_true', decide_eq_false_iff_not]
        intro q
        rw [q] at ht'
        have z : (0 : Int64).toInt = 0 := rfl
        omega
      have g0 : (!decide ((10 : Int64) = 0)) = true := by decide
      have q1 : (w / t).toInt = -((m / 10 ^ (e - 1) : Nat) : Int) := by rw [l_div ht' p1, neg_td hw]
      have q2 : (w / t - w / t / 10 * 10).toInt = -((m / 10 ^ (e - 1) % 10 : Nat) : Int) := by
        rw [t10.2, q1, Int.neg_tmod]; rfl
      have q3 : ((48 : Int64) - (w / t - w / t / 10 * 10)).toInt32 = Int32.ofNat (48 + m / 10 ^ (e - 1) % 10) := by
        have z : (48 : Int64).toInt = 48 := rfl
        have a1 : ((48 : Int64) - (w / t - w / t / 10 * 10)).toInt = ((48 + m / 10 ^ (e - 1) % 10 : Nat) : Int) := by
          rw [Int64.toInt_sub, q2, z]
          rw [Int.bmod_eq_of_le (by omega) (by omega)]
          omega
        rw [tI_eq, ll_32 (by omega), a1, tI_lit (by omega)]
      obtain ⟨τ, e1, e2, e3⟩ := put_m (N := N) (b := Int32.ofNat (48 + m / 10 ^ (e - 1) % 10)) hb (by omega)
      have i1 : d - e + 1 = d - (e - 1) := by omega
      simp only [t0, g0, gd, q3, e1, bd, lt, oN_s, i1]
      have e4 : Int32.ofNat (48 + m / 10 ^ (e - 1) % 10) &&& 255 = Int32.ofNat (48 + m / 10 ^ (e - 1) % 10) := by
        have : ∀ i : Fin 10, Int32.ofNat (48 + i.val) &&& 255 = Int32.ofNat (48 + i.val) := by decide +kernel
        exact this ⟨m / 10 ^ (e - 1) % 10, by omega⟩
      rw [e4] at e2
      obtain ⟨υ, f1, f2, f3⟩ := ih d (e - 1) (t / 10) τ _ hd (by omega) (by
        by_cases c2 : e = 1
        · left; omega
        · right
          rw [l_div (c := 10) rfl (by decide), ht']
          have : 10 ^ (e - 1) = 10 ^ (e - 1 - 1) * 10 := by rw [← Nat.pow_succ]; congr 1; omega
          rw [this]
          show (((10 ^ (e - 1 - 1) * 10) / 10 : Nat) : Int) = _
          rw [Nat.mul_div_cancel _ (by decide)]) (by omega) e2 (by rw [List.length_append, List.length_singleton]; omega)
      refine ⟨υ, f1, ?_, mf_tr e3 f3⟩
      obtain ⟨e', rfl⟩ : ∃ e', e = e' + 1 := ⟨e - 1, by omega⟩
      simp only [Nat.add_sub_cancel] at f2 ⊢
      rw [dgT]
      rw [List.append_assoc] at f2
      exact f2
theorem pn_31 {N : Nat} (hN : BIG ≤ N) {w : Int64} {m D : Nat} (hw : w.toInt = -(m : Int)) (hD : isDn m D) (D1 : D ≤ 19) : ∀ (n d : Nat) (t : Int64) (μ : mS) (l : List Int32), 1 ≤ d → d ≤ D → t.toInt = ((10 ^ (d - 1) : Nat) : Int) → D - d < n → bufL μ l → l.length + D < 1000000 → ∃ τ, mm_putNumber_31 N n t w (Int32.ofNat d) μ = some τ ∧ bufL τ (l ++ dgT D m) ∧ m_fr bK μ τ := by
  intro n
  induction n with
  | zero => intro d t μ l _ _ _ h; omega
  | succ n ih =>
    intro d t μ l d1 hd ht hn hb hl
    have p1 : 0 < 10 ^ (d - 1) := Nat.pow_pos (by decide)
    have t0 : (!decide (t = 0)) = true := by
      rw [Bool.not_eq_true', decide_eq_false_iff_not]
      intro q
      rw [q] at ht
      have z : (0 : Int64).toInt = 0 := rfl
      omega
    have q1 : (w / t).toInt = -((m / 10 ^ (d - 1) : Nat) : Int) := by rw [l_div ht p1, neg_td hw]
    have z10 : (-10 : Int64).toInt = -10 := rfl
    have ce : 0 < lg_cmp (w / t) (-10) ↔ m / 10 ^ (d - 1) < 10 := by
      rw [lgc_gt, Int64.lt_iff_toInt_lt, q1, z10]; omega
    have pw : 10 ^ d = 10 ^ (d - 1) * 10 := by rw [← Nat.pow_succ]; congr 1; omega
    have ce2 : m / 10 ^ (d - 1) < 10 ↔ m < 10 ^ d := by rw [Nat.div_lt_iff_lt_mul p1, pw, Nat.mul_comm]
    rw [mm_putNumber_31, t0]
    simp only [gd]
    by_cases c : m < 10 ^ d
    · rw [if_pos (ce.mpr (ce2.mpr c))]
      have : d = D := by
        obtain ⟨a1, a2, a3⟩ := hD
        rcases Nat.lt_or_ge d D with q | q
        · have := Nat.pow_le_pow_right (show 0 < 10 by decide) (show d ≤ D - 1 by omega)
          omega
        · omega
      subst this
      have := pn_57 (N := N) hw N d d t μ l D1 (by omega) (.inr ht) (by simp only [BIG] at hN; omega) hb hl
      rw [Nat.sub_self] at this
      exact this
    · rw [if_neg (fun q => c (ce2.mp (ce.mp q)))]
      have dD : d < D := by
        rcases Nat.lt_or_ge d D with q | q
        · exact q
        · have : d = D := by omega
          subst this
          exact absurd hD.2.1 c
      have b1 := Nat.pow_le_pow_right (show 0 < 10 by decide) (show d ≤ 18 by omega)
      simp only [lt, oN_s]
      refine ih (d + 1) (t * 10) μ l (by omega) (by omega) ?_ (by omega) hb hl
      rw [Int64.toInt_mul, ht, Nat.add_sub_cancel, pw]
      have z : (10 : Int64).toInt = 10 := rfl
      rw [z, Int.bmod_eq_of_le (by omega) (by omega)]
      omega
theorem putNumber_m {N : Nat} (hN : BIG ≤ N) {r : Int64} {t : List Int32} (ht : numT r t) {μ : mS} {l : List Int32} (hb : bufL μ l) (hl : l.length < 900000) : ∃ τ, mm_putNumber N μ r = some τ ∧ bufL τ (l ++ t) ∧ m_fr bK μ τ := by
  have t20 := numT_len ht
  obtain ⟨d, hd, rfl⟩ := ht
  have d19 : d ≤ 19 := by
    have rr := l_rng r
    obtain ⟨e, b, c⟩ := isDn_ex 18 r.toInt.natAbs (show _ < 10 ^ (18 + 1) by omega)
    have := isDn_one hd b
    omega
  have rr := l_rng r
  have z0 : (0 : Int64).toInt = 0 := rfl
  by_cases c : r < 0
  · have nc : ¬ 0 ≤ lg_cmp r 0 := fun q => by rw [lgc_ge] at q; lia
    rw [if_pos c, ← List.append_assoc]
    obtain ⟨τ, e1, e2, e3⟩ := put_m (N := N) (b := 45) hb (by omega)
    simp only [mm_putNumber, if_neg nc, e1, bd, mm_putNumber_12, mm_putNumber_26]
    rw [Int64.lt_iff_toInt_lt, z0] at c
    obtain ⟨υ, f1, f2, f3⟩ := pn_31 hN (w := r) (m := r.toInt.natAbs) (D := d) (by omega) hd d19 N 1 1 τ _ (by omega) hd.1 rfl (by simp only [BIG] at hN; omega) e2 (by rw [List.length_append, List.length_singleton]; omega)
    exact ⟨υ, f1, f2, mf_tr e3 f3⟩
  · have nc : 0 ≤ lg_cmp r 0 := by rw [lgc_ge]; lia
    rw [if_neg c]
    simp only [mm_putNumber, if_pos nc, mm_putNumber_12, mm_putNumber_26, List.nil_append]
    rw [Int64.lt_iff_toInt_lt, z0] at c
    exact pn_31 hN (w := -r) (m := r.toInt.natAbs) (D := d) (by
      rw [Int64.toInt_neg, Int.bmod_eq_of_le (by omega) (by omega)]; omega) hd d19 N 1 1 μ l (by omega) hd.1 rfl (by simp only [BIG] at hN; omega) hb (by omega)
