/-! LAYER 2: step rules: FUNCTION: what is captured is written -/
/-- where captures begin stays, for the other functions -/
theorem fun_223 {N : Nat} {K : Int32 → Int32 → Int32 → Prop} {q : Int} {w : WD} {σ μ τ τm : mS} {gx gm n a b : Int32} (H : RH K q w σ μ) (n0 : 0 ≤ n) (n1 : n ≤ 12000) (h1 : xx3_function N σ gx n = some (.ok (a, τ))) (h2 : mm_makeFunction N μ gm n = some (b, τm)) (b0 : 0 ≤ b) : (∀ x, 0 ≤ x → x ≠ a → sI τ 223 x = sI σ 223 x) ∧ (∀ x, 0 ≤ x → x ≠ b → sI τm 46 x = sI μ 46 x) := by
  obtain ⟨W, S, ⟨es, es', R⟩, F, B, s1, s2, s3, s4⟩ := H
  obtain ⟨⟨f, F1⟩, F2, F3, F4⟩ := F
  have lX : ((wF w).map Prod.fst).length = (wF w).length := List.length_map ..
  have lM : ((wF w).map Prod.snd).length = (wF w).length := List.length_map ..
  have o7 := F1.1.2.2.2.2.2.2
  have b5 := F2.1.2.2.2.2.2.2
  have z1 : (4000 : Int32).toInt = 4000 := rfl
  have z0 : (0 : Int32).toInt = 0 := rfl
  have cnt : sF σ 230 = 4000 ↔ sF μ 48 = 0 := by
    rw [tI_eq, tI_eq, z1, z0]
    omega
  by_cases c : sF σ 230 = 4000 ∨ 12000 < sF σ 232 + n
  · have := function_x0 (N := N) (c := gx) c
    rw [h1] at this
    exact absurd (Option.some.inj this) (fun h => by cases h)
  have c1 : sF σ 230 ≠ 4000 := fun h => c (.inl h)
  have c2 : sF σ 232 + n ≤ 12000 := Int32.not_lt.mp (fun h => c (.inr h))
  have c2' : sF μ 52 + n ≤ 12000 := by rw [← F3]; exact c2
  obtain ⟨a', τ', x0, f', x1, x2, x3, x4, x5, x6, x7, x8, x9, x10, x11, x12, fr⟩ := function_x (N := N) (c := gx) F1 n0 n1 c1 c2
  obtain ⟨b', τm', y0, y1, y2, y3, y4, y5, y6, y7, y8, y9, y10, frm⟩ := function_m (N := N) (c := gm) F2 n0 n1 (fun z => c1 (cnt.mpr z)) c2'
  rw [h1] at x0
  rw [h2] at y0
  have ex := Except.ok.inj (Option.some.inj x0)
  have ey := Option.some.inj y0
  have e1 : a = a' := (Prod.mk.inj ex).1
  have e2 : τ = τ' := (Prod.mk.inj ex).2
  have e3 : b = b' := (Prod.mk.inj ey).1
  have e4 : τm = τm' := (Prod.mk.inj ey).2
  subst e1 e2 e3 e4
  exact ⟨fun x h ne => by rw [x7 x h, if_neg ne], fun x h ne => by rw [y7 x h, if_neg ne]⟩
theorem cw_1 {top cnt i : Int32} (t0 : 0 ≤ top) (c0 : 0 ≤ cnt) (h : top + cnt ≤ 12000) (t1 : top ≤ 12000) (i0 : 0 ≤ i) (i1 : i < cnt) (c1 : cnt ≤ 12000) : (0 ≤ top + i ∧ top + i < 12000) ∧ 0 ≤ i + 1 ∧ i + 1 ≤ cnt ∧ (i + 1).toInt = i.toInt + 1 := by
  refine ⟨⟨by lia, by lia⟩, by lia, by lia, ?_⟩
  have a := tI_le.mp i0
  have b := tI_lt.mp (Int32.lt_of_lt_of_le i1 c1)
  rw [show (12000 : Int32).toInt = 12000 from rfl] at b
  rw [show (0 : Int32).toInt = 0 from rfl] at a
  rw [tI_add, show (1 : Int32).toInt = 1 from rfl] <;> rw [show (1 : Int32).toInt = 1 from rfl] <;> omega
theorem cw_2 {top i k : Int32} (t0 : 0 ≤ top) (t1 : top ≤ 12000) (i0 : 0 ≤ i) (i1 : i ≤ 12000) (k0 : 0 ≤ k) (k1 : k < i + 1) (ne : ¬ k = i) : k < i ∧ ¬ top + k = top + i ∧ 0 ≤ top + k := ⟨by lia, by lia, by lia⟩
theorem cw_3 {top i m : Int32} (t0 : 0 ≤ top) (t1 : top ≤ 12000) (i0 : 0 ≤ i) (i1 : i ≤ 12000) (h : m < top) : ¬ m = top + i := by lia
/-- the system's captures -/
theorem cap_x {N : Nat} {σ : mS} {r body cnt h top : Int32} {bf : Int32 → Int32} (b0 : 0 ≤ body) (b1 : body < 5401) (h0 : 0 ≤ h) (h1 : h < 4000) (c0 : 0 ≤ cnt) (c1 : cnt ≤ 12000) (t0 : 0 ≤ top) (t1 : top ≤ 12000) (tc : top + cnt ≤ 12000) (h223 : sI σ 223 h = top) (hs : ∀ k, 0 ≤ k → k < cnt → (0 ≤ sI σ 265 body + k ∧ sI σ 265 body + k < 220000) ∧ ∀ τ, m_fr (fun k => k == 231) σ τ → (∀ m, 0 ≤ m → m < top → sI τ 231 m = sI σ 231 m) → ((sI σ 266 (sI σ 265 body + k) < 0 ∧ xx6_captured N τ (-1 - sI σ 266 (sI σ 265 body + k)) = some (bf k, τ)) ∨ (¬ sI σ 266 (sI σ 265 body + k) < 0 ∧ xx6_value N τ (sI σ 266 (sI σ 265 body + k)) = some (Int32.toInt64 (bf k), τ)))) (j : Nat) (i : Int32) (i0 : 0 ≤ i) (i1 : i ≤ cnt) (hj : (cnt.toInt - i.toInt).toNat < j) : ∀ τ, m_fr (fun k => k == 231) σ τ → (∀ k, 0 ≤ k → k < i → sI τ 231 (top + k) = bf k) → (∀ m, 0 ≤ m → m < top → sI τ 231 m = sI σ 231 m) → ∃ υ, xx6_function_b36 N j r body cnt h i τ = bd (xx6_set N υ r 6 (Int32.toInt64 h)) (fun z3 => some (.ok z3)) ∧ m_fr (fun k => k == 231) σ υ ∧ (∀ k, 0 ≤ k → k < cnt → sI υ 231 (top + k) = bf k) ∧ (∀ m, 0 ≤ m → m < top → sI υ 231 m = sI σ 231 m) := by
  induction j generalizing i with
  | zero => omega
  | succ j ih =>
    intro τ fr q1 q2
    rw [xx6_function_b36]
    by_cases ci : cnt ≤ i
    · have ei : i = cnt := Int32.le_antisymm i1 ci
      subst ei
      rw [if_pos ci]
      exact ⟨τ, rfl, fr, q1, q2⟩
    · have ilt : i < cnt := Int32.not_le.mp ci
      obtain ⟨I, st⟩ := hs i i0 ilt
      have K := cw_1 t0 c0 tc t1 i0 ilt c1
      have e265 : τ.2.2.1 265 body.toNatClampNeg = sI σ 265 body := mf_I fr (k := 265) rfl
      have e266 : τ.2.2.1 266 (sI σ 265 body + i).toNatClampNeg = sI σ 266 (sI σ 265 body + i) := mf_I fr (k := 266) rfl
      have e223 : τ.2.2.1 223 h.toNatClampNeg = top := (mf_I fr (k := 223) rfl).trans h223
      have go : ∀ υ, xx6_function_b107 N (xx6_function_b36 N j) r body cnt h i (top + i) (bf i) τ = some (.ok υ) ∨ True := fun _ => .inr trivial
      have nx' : ∃ υ, xx6_function_b107 N (xx6_function_b36 N j) r body cnt h i (top + i) (bf i) τ = bd (xx6_set N υ r 6 (Int32.toInt64 h)) (fun z3 => some (.ok z3)) ∧ m_fr (fun k => k == 231) σ υ ∧ (∀ k, 0 ≤ k → k < cnt → sI υ 231 (top + k) = bf k) ∧ (∀ m, 0 ≤ m → m < top → sI υ 231 m = sI σ 231 m) := by
        rw [xx6_function_b107, gd_in (by decide) K.1.1 K.1.2, lt, lt]
        refine ih (i + 1) K.2.1 K.2.2.1 (by have := tI_lt.mp ilt; omega) _ (mf_ai fr rfl) (fun k k0 k1 => ?_) (fun m m0 m1 => ?_)
        · by_cases ck : k = i
          · subst ck
            rw [sI_aj K.1.1 K.1.1, if_pos rfl]
          · have KK := cw_2 t0 t1 i0 (Int32.le_trans i1 c1) k0 k1 ck
            rw [sI_aj K.1.1 KK.2.2, if_neg KK.2.1]
            exact q1 k k0 KK.1
        · rw [sI_aj K.1.1 m0, if_neg (cw_3 t0 t1 i0 (Int32.le_trans i1 c1) m1)]
          exact q2 m m0 m1
      rw [if_neg ci, gd_in (by decide) b0 b1, e265, gd_in (by decide) I.1 I.2, e266, lt, gd_in (by decide) h0 h1, e223]
      rcases st τ fr q2 with ⟨s1, s2⟩ | ⟨s1, s2⟩
      · rw [if_pos s1, s2, bd_so]
        exact nx'
      · rw [if_neg s1, s2, bd_so, i32_64]
        exact nx'
/-- the reference's captures -/
theorem cap_m {N : Nat} {σ : mS} {k1 base body cnt h top : Int32} {bf : Int32 → Int32} (b0 : 0 ≤ body) (b1 : body < 9000) (h0 : 0 ≤ h) (h1 : h < 4100) (c0 : 0 ≤ cnt) (c1 : cnt ≤ 12000) (t0 : 0 ≤ top) (t1 : top ≤ 12000) (tc : top + cnt ≤ 12000) (h81 : sI σ 81 body = cnt) (h46 : sI σ 46 h = top) (hs : ∀ k, 0 ≤ k → k < cnt → (0 ≤ sI σ 80 body + k ∧ sI σ 80 body + k < 240000) ∧ ∀ τ, m_fr (fun k => k == 50) σ τ → (∀ m, 0 ≤ m → m < top → sI τ 50 m = sI σ 50 m) → ((sI σ 83 (sI σ 80 body + k) - sI σ 83 (sI σ 80 body + k) / 2 * 2 = 0 ∧ (0 ≤ base + sI σ 83 (sI σ 80 body + k) / 2 ∧ base + sI σ 83 (sI σ 80 body + k) / 2 < 500000) ∧ sJ σ 142 (base + sI σ 83 (sI σ 80 body + k) / 2) = Int32.toInt64 (bf k)) ∨ (¬ sI σ 83 (sI σ 80 body + k) - sI σ 83 (sI σ 80 body + k) / 2 * 2 = 0 ∧ (0 ≤ k1 ∧ k1 < 256) ∧ (0 ≤ sI σ 145 k1 ∧ sI σ 145 k1 < 4100) ∧ (0 ≤ sI σ 46 (sI σ 145 k1) + sI σ 83 (sI σ 80 body + k) / 2 ∧ sI σ 46 (sI σ 145 k1) + sI σ 83 (sI σ 80 body + k) / 2 < 12000) ∧ sI τ 50 (sI σ 46 (sI σ 145 k1) + sI σ 83 (sI σ 80 body + k) / 2) = bf k))) (j : Nat) (i : Int32) (i0 : 0 ≤ i) (i1 : i ≤ cnt) (hj : (cnt.toInt - i.toInt).toNat < j) : ∀ τ, m_fr (fun k => k == 50) σ τ → (∀ k, 0 ≤ k → k < i → sI τ 50 (top + k) = bf k) → (∀ m, 0 ≤ m → m < top → sI τ 50 m = sI σ 50 m) → ∃ υ, mm_close_22 N j k1 base body h i τ = bd (mm_push N υ 5 (Int32.toInt64 h)) (fun z3 => some z3) ∧ m_fr (fun k => k == 50) σ υ ∧ (∀ k, 0 ≤ k → k < cnt → sI υ 50 (top + k) = bf k) ∧ (∀ m, 0 ≤ m → m < top → sI υ 50 m = sI σ 50 m) := by
  induction j generalizing i with
  | zero => omega
  | succ j ih =>
    intro τ fr q1 q2
    have e81 : τ.2.2.1 81 body.toNatClampNeg = cnt := (mf_I fr (k := 81) rfl).trans h81
    rw [mm_close_22, gd_in (by decide) b0 b1, e81]
    by_cases ci : cnt ≤ i
    · have ei : i = cnt := Int32.le_antisymm i1 ci
      subst ei
      rw [if_pos ci]
      exact ⟨τ, rfl, fr, q1, q2⟩
    · have ilt : i < cnt := Int32.not_le.mp ci
      obtain ⟨I, st⟩ := hs i i0 ilt
      have K := cw_1 t0 c0 tc t1 i0 ilt c1
      have e80 : τ.2.2.1 80 body.toNatClampNeg = sI σ 80 body := mf_I fr (k := 80) rfl
      have e83 : τ.2.2.1 83 (sI σ 80 body + i).toNatClampNeg = sI σ 83 (sI σ 80 body + i) := mf_I fr (k := 83) rfl
      have e46 : τ.2.2.1 46 h.toNatClampNeg = top := (mf_I fr (k := 46) rfl).trans h46
      have nx' : ∃ υ, mm_close_106 N (mm_close_22 N j) k1 base body h i (top + i) (bf i) τ = bd (mm_push N υ 5 (Int32.toInt64 h)) (fun z3 => some z3) ∧ m_fr (fun k => k == 50) σ υ ∧ (∀ k, 0 ≤ k → k < cnt → sI υ 50 (top + k) = bf k) ∧ (∀ m, 0 ≤ m → m < top → sI υ 50 m = sI σ 50 m) := by
        rw [mm_close_106, gd_in (by decide) K.1.1 K.1.2, lt, lt]
        refine ih (i + 1) K.2.1 K.2.2.1 (by have := tI_lt.mp ilt; omega) _ (mf_ai fr rfl) (fun k k0 k1 => ?_) (fun m m0 m1 => ?_)
        · by_cases ck : k = i
          · subst ck
            rw [sI_aj K.1.1 K.1.1, if_pos rfl]
          · have KK := cw_2 t0 t1 i0 (Int32.le_trans i1 c1) k0 k1 ck
            rw [sI_aj K.1.1 KK.2.2, if_neg KK.2.1]
            exact q1 k k0 KK.1
        · rw [sI_aj K.1.1 m0, if_neg (cw_3 t0 t1 i0 (Int32.le_trans i1 c1) m1)]
          exact q2 m m0 m1
      have d2 : (!decide ((2 : Int32) = 0)) = true := rfl
      rw [if_neg ci, gd_in (by decide) b0 b1, e80, gd_in (by decide) I.1 I.2, e83, lt, gd_in (by decide) h0 h1, d2, gd_tt]
      rcases st τ fr q2 with ⟨s1, s2, s3⟩ | ⟨s1, s2, s3, s4, s5⟩
      · have e142 : τ.2.2.2 142 (base + sI σ 83 (sI σ 80 body + i) / 2).toNatClampNeg = Int32.toInt64 (bf i) := (mf_J fr (k := 142) rfl).trans s3
        rw [if_pos s1, gd_tt, gd_in (by decide) s2.1 s2.2, e46, e142, i32_64]
        exact nx'
      · have e145 : τ.2.2.1 145 k1.toNatClampNeg = sI σ 145 k1 := mf_I fr (k := 145) rfl
        have e46' : τ.2.2.1 46 (sI σ 145 k1).toNatClampNeg = sI σ 46 (sI σ 145 k1) := mf_I fr (k := 46) rfl
        have e50 : τ.2.2.1 50 (sI σ 46 (sI σ 145 k1) + sI σ 83 (sI σ 80 body + i) / 2).toNatClampNeg = bf i := s5
        rw [if_neg s1, gd_in (by decide) s2.1 s2.2, e145, gd_in (by decide) s3.1 s3.2, gd_tt, e46', gd_in (by decide) s4.1 s4.2, e46, e50]
        exact nx'
