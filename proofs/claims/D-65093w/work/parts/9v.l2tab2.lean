/-! LAYER 2: the two sides: a table is made, lengths -/
theorem ll_ad {b : Int32} (h0 : 0 ≤ b) (h1 : b < 2147483647) : Int32.toInt64 b + 1 = Int32.toInt64 (b + 1) := by
  apply Int64.toInt_inj.mp
  have e : (b + 1).toInt = b.toInt + 1 := by
    rw [tI_le] at h0
    rw [tI_lt] at h1
    have z : (0 : Int32).toInt = 0 := rfl
    have z2 : (2147483647 : Int32).toInt = 2147483647 := rfl
    rw [tI_add] <;> simp only [show (1 : Int32).toInt = 1 from rfl] <;> omega
  rw [Int64.toInt_add, Int32.toInt_toInt64, Int32.toInt_toInt64, e]
  have := tI_rng b
  have z : (1 : Int64).toInt = 1 := rfl
  rw [z]
  exact Int.bmod_eq_of_le (by omega) (by omega)
theorem RS_fr {P Q : Nat → Bool} {w : WD} {σ μ τ τm : mS} (S : RS w σ μ) (fr : m_fr P σ τ) (frm : m_fr Q μ τm) (hp : ∀ k, 128 ≤ k → k ≤ 142 → P k = false) (hq : ∀ k, k ≤ 15 → 2 ≤ k → k ≠ 11 → Q k = false) : RS w τ τm := by
  have i : ∀ k, 128 ≤ k → k ≤ 142 → sI τ k = sI σ k := fun k a b => by funext m; exact mf_I fr (hp k a b)
  have f : ∀ k, 128 ≤ k → k ≤ 142 → sF τ k = sF σ k := fun k a b => mf_F fr (hp k a b)
  have j : ∀ k, k ≤ 15 → 2 ≤ k → k ≠ 11 → sI τm k = sI μ k := fun k a b c => by funext m; exact mf_I frm (hq k a b c)
  have g : ∀ k, k ≤ 15 → 2 ≤ k → k ≠ 11 → sF τm k = sF μ k := fun k a b c => mf_F frm (hq k a b c)
  have bx : ∀ h, x_by τ h = x_by σ h := fun h => by
    funext k
    simp only [x_by, i 128 (by decide) (by decide), i 131 (by decide) (by decide), i 132 (by decide) (by decide)]
  have bm : ∀ h, m_by τm h = m_by μ h := fun h => by
    funext k
    simp only [m_by, j 2 (by decide) (by decide) (by decide), j 7 (by decide) (by decide) (by decide), j 10 (by decide) (by decide) (by decide)]
  have sx : ∀ o q, SX σ o q → SX τ o q := fun o q h => by
    simp only [SX, x_hs, x_sz, bx, i 136 (by decide) (by decide), f 137 (by decide) (by decide), f 138 (by decide) (by decide), f 139 (by decide) (by decide), f 140 (by decide) (by decide), f 141 (by decide) (by decide), i 128 (by decide) (by decide), i 129 (by decide) (by decide), i 130 (by decide) (by decide), i 142 (by decide) (by decide)] at h ⊢
    exact h
  have tx : ∀ sl, TX σ sl → TX τ sl := fun sl h => by
    simp only [TX, x_hs, x_eq, x_sz, bx, f 134 (by decide) (by decide), f 133 (by decide) (by decide), i 135 (by decide) (by decide), i 130 (by decide) (by decide), i 128 (by decide) (by decide), i 129 (by decide) (by decide), i 132 (by decide) (by decide)] at h ⊢
    exact h
  have sm : ∀ o, SM μ o → SM τm o := fun o h => by
    simp only [SM, m_hs, m_sz, bm, j 14 (by decide) (by decide) (by decide), g 15 (by decide) (by decide) (by decide), g 13 (by decide) (by decide) (by decide), g 12 (by decide) (by decide) (by decide), j 2 (by decide) (by decide) (by decide), j 3 (by decide) (by decide) (by decide), j 4 (by decide) (by decide) (by decide)] at h ⊢
    exact h
  have tm : ∀ bk, TM μ bk → TM τm bk := fun bk h => by
    simp only [TM, m_hs, m_sz, bm, g 5 (by decide) (by decide) (by decide), g 6 (by decide) (by decide) (by decide), j 8 (by decide) (by decide) (by decide), j 9 (by decide) (by decide) (by decide), j 4 (by decide) (by decide) (by decide), j 2 (by decide) (by decide) (by decide), j 3 (by decide) (by decide) (by decide), j 7 (by decide) (by decide) (by decide)] at h ⊢
    exact h
  obtain ⟨⟨q, S1⟩, ⟨sl, S2⟩, S3, ⟨bk, S4⟩, S5, S6, S7, S8⟩ := S
  refine ⟨⟨q, sx _ _ S1⟩, ⟨sl, tx _ S2⟩, sm _ S3, ⟨bk, tm _ S4⟩, fun a b h => ?_, fun a b h => ?_, ?_, NB_fr S8 fr (hp 131 (by decide) (by decide)) (hp 132 (by decide) (by decide))⟩
  · rw [f 134 (by decide) (by decide), g 5 (by decide) (by decide) (by decide)]; exact S5 a b h
  · simp only [x_sz, m_sz, bx, bm, i 129 (by decide) (by decide), j 3 (by decide) (by decide) (by decide)]; exact S6 a b h
  · rw [f 141 (by decide) (by decide), g 12 (by decide) (by decide) (by decide)]; exact S7
theorem RS_wT {w : WD} {σ μ : mS} {l : PL2} (S : RS w σ μ) : RS (wS w, wX w, l, w.2.2.2) σ μ := S
def wAddT (w : WD) (a b : Int32) : WD := (wS w, wX w, (a, b) :: wT w, w.2.2.2)
theorem wAddT_le {w : WD} {a b : Int32} : wle w (wAddT w a b) := ⟨fun _ h => h, fun _ h => h, fun p h => List.mem_cons_of_mem _ h, fun _ h => h, fun _ h => h, fun _ h => h⟩
theorem bij_cons {l : PL2} {a b : Int32} (h : bij l) (ha : a ∉ l.map Prod.fst) (hb : b ∉ l.map Prod.snd) : bij ((a, b) :: l) := by
  have na : ∀ c d, (c, d) ∈ l → a ≠ c ∧ b ≠ d := fun c d q => ⟨fun z => ha (List.mem_map.mpr ⟨(c, d), q, z.symm⟩), fun z => hb (List.mem_map.mpr ⟨(c, d), q, z.symm⟩)⟩
  intro x y u v h1 h2
  rcases List.mem_cons.mp h1 with p | p
  · obtain ⟨rfl, rfl⟩ := Prod.mk.inj p
    rcases List.mem_cons.mp h2 with q | q
    · obtain ⟨rfl, rfl⟩ := Prod.mk.inj q
      exact ⟨fun _ => rfl, fun _ => rfl⟩
    · exact ⟨fun z => absurd z (na u v q).1, fun z => absurd z (na u v q).2⟩
  · rcases List.mem_cons.mp h2 with q | q
    · obtain ⟨rfl, rfl⟩ := Prod.mk.inj q
      exact ⟨fun z => absurd z.symm (na x y p).1, fun z => absurd z.symm (na x y p).2⟩
    · exact h x y u v p q
theorem table_2 {N : Nat} {w : WD} {σ μ : mS} {es es' : Int32 → List Int32} (W : WOK w) (S : RS w σ μ) (R : RT w σ μ es es') (se : sG σ 194 = Int32.toInt64 (sF μ 18) + 1) (s0 : 0 ≤ sF μ 18) (s1 : sF μ 18 < 2147483647) :
    (xx3_table N σ = some (.error (1101, σ)) ∧ mm_makeTable N μ = bd (mm_breakOff N μ 3) (fun z => some (-1, z)))
    ∨ (∃ a b τ τm, xx3_table N σ = some (.ok (a, τ)) ∧ mm_makeTable N μ = some (b, τm) ∧ 0 ≤ a ∧ a < 3000 ∧ 0 ≤ b ∧ b < 3000 ∧ WOK (wAddT w a b) ∧ RS (wAddT w a b) τ τm ∧ RT (wAddT w a b) τ τm (fU es a []) (fU es' b []) ∧ sG τ 194 = Int32.toInt64 (sF τm 18) + 1 ∧ sF τm 18 = sF μ 18 + 1 ∧ sF τ 211 = sF σ 211 + 1 ∧ sF τm 30 = sF μ 30 + 1 ∧ m_fr hT σ τ ∧ m_fr mT μ τm) := by
  obtain ⟨⟨ps, hs, ff, fh, M⟩, ⟨ft, T⟩, ⟨ps', MM'⟩, T', E⟩ := R
  have lX : (tX w).length = (wT w).length := List.length_map ..
  have lM : (tM w).length = (wT w).length := List.length_map ..
  have z3 : (3000 : Int32).toInt = 3000 := rfl
  have z0 : (0 : Int32).toInt = 0 := rfl
  have t4 := T.2.2.2.1
  have t5 := T'.2.2.2.2.1
  have cnt : sF σ 211 = 3000 ↔ sF μ 29 = 0 := by
    rw [tI_eq, tI_eq, z3, z0]
    omega
  by_cases c : sF σ 211 = 3000
  · exact .inl ⟨table_x0 c, table_m0 (cnt.mp c)⟩
  · right
    obtain ⟨a, τ, ft', _, a0, a1, a2, a3, a4, a5, a6, a7, a8, a9, a10⟩ := table_x (N := N) M T c
    obtain ⟨b, τm, b0, b1, b2, b3, b4, b5, b6, b7, b8, b9, b10⟩ := table_m (N := N) MM' T' (fun q => c (cnt.mpr q))
    have wok : WOK (wAddT w a b) := ⟨bij_cons W.1 a2 b2, W.2⟩
    have nX : ∀ x y, (x, y) ∈ wT w → x ≠ a ∧ y ≠ b := fun x y q => ⟨fun z => a2 (by rw [← z]; exact tX_mem q), fun z => b2 (by rw [← z]; exact tM_mem q)⟩
    have er : ∀ x y, ER w σ μ x y → ER (wAddT w a b) τ τm x y := fun x y r => by
      obtain ⟨r1, r2, r3, r4⟩ := r
      refine ⟨?_, ?_, by rw [mf_I a10 rfl]; exact r3, by rw [mf_I a10 rfl]; exact r4⟩
      · rw [mf_I a10 rfl, mf_J a10 rfl, mf_I b10 rfl, mf_J b10 rfl]; exact VV_mono wAddT_le r1
      · rw [mf_I a10 rfl, mf_J a10 rfl, mf_I b10 rfl, mf_J b10 rfl]; exact VV_mono wAddT_le r2
    refine ⟨a, b, τ, τm, a3, b3, a0, a1, b0, b1, wok, RS_wT (RS_fr S a10 b10 (fun k k0 k1 => ?_) (fun k k0 k1 k2 => ?_)), ⟨⟨ps, fU hs a [], ff, fh, a4⟩, ⟨ft', a5⟩, ⟨ps', b4⟩, b5, fun x y hxy => ?_⟩, ?_, b8, a9, b9, a10, b10⟩
    · simp only [hT, List.contains_cons, List.contains_nil, Bool.or_eq_false_iff, beq_eq_false_iff_ne]
      refine ⟨?_, ?_, ?_, ?_, ?_, ?_, ?_, ?_, ?_, ?_, ?_, ?_, trivial⟩ <;> omega
    · simp only [mT, List.contains_cons, List.contains_nil, Bool.or_eq_false_iff, beq_eq_false_iff_ne]
      refine ⟨?_, ?_, ?_, ?_, ?_, ?_, ?_, ?_, ?_, ?_, ?_, trivial⟩ <;> omega
    · rcases List.mem_cons.mp hxy with q | q
      · obtain ⟨rfl, rfl⟩ := Prod.mk.inj q
        refine ⟨by rw [fU_s, fU_s]; trivial, .inl ⟨by rw [a6 x a0, if_pos rfl], by rw [b6 y b0, if_pos rfl]⟩, ?_⟩
        rw [a7 x a0, if_pos rfl, b7 y b0, if_pos rfl, se, ll_ad s0 s1]
      · obtain ⟨n1, n2⟩ := nX x y q
        have x0 := (M.2.1.1 x (tX_mem q)).1
        have y0 := (MM'.2.2.2.1 y (tM_mem q)).1
        obtain ⟨q1, q2, q3⟩ := E x y q
        refine ⟨by rw [fU_o n1, fU_o n2]; exact F2_mono q1 (fun u v _ _ r => er u v r), ?_, ?_⟩
        · rw [a6 x x0, b6 y y0, if_neg n1, if_neg n2]
          rcases q2 with q2 | q2
          · exact .inl q2
          · exact .inr (List.mem_cons_of_mem _ q2)
        · rw [a7 x x0, b7 y y0, if_neg n1, if_neg n2]; exact q3
    · rw [a8, b8, se, ll_ad s0 s1]
theorem length_2 {N : Nat} (hN : BIG ≤ N) {w : WD} {σ μ : mS} {es es' : Int32 → List Int32} {a b : Int32} (S : RS w σ μ) (R : RT w σ μ es es') (h : (a, b) ∈ wT w) : ∃ n τ τm, xx3_length N σ a = some (n, τ) ∧ mm_length N μ b = some (Int32.toInt64 n, τm) ∧ 0 ≤ n ∧ n ≤ 20000 ∧ RT w τ τm es es' ∧ RS w τ τm ∧ m_fr hU σ τ ∧ m_fr (fun k => [25, 42, 43].contains k) μ τm := by
  obtain ⟨⟨ps, hs, ff, fh, M⟩, ⟨ft, T⟩, ⟨ps', MM'⟩, T', E⟩ := R
  obtain ⟨b0, b1, _⟩ := MM'.2.2.2.1 b (tM_mem h)
  obtain ⟨n, τ, hs', fh', x1, x2, x3, x4⟩ := length_x hN M (RS_dst S) (tX_mem h)
  obtain ⟨m, τm, y1, y2, y3, y4, y5⟩ := length_m hN MM'.1 (tM_mem h) b0 b1 (MM'.2.1 b (tM_mem h))
  have e := len_2 (E a b h).1 x2 y2
  subst e
  refine ⟨n, τ, τm, x1, y1, y2.1, y2.2.1, ⟨⟨ps, hs', ff, fh', x3⟩, ⟨ft, ?_⟩, ⟨ps', mf_FM y5 ⟨rfl, rfl, rfl, rfl, rfl⟩ ⟨rfl, rfl, rfl, rfl, rfl⟩ MM'.1, fun t ht => ?_, mf_EM y5 ⟨rfl, rfl, rfl, rfl, rfl, rfl, rfl, rfl, rfl⟩ MM'.2.2⟩, ?_, fun c d hcd => ⟨?_, ?_, ?_⟩⟩, RS_fr S x4 y5 (fun k k0 k1 => ?_) (fun k k0 k1 k2 => ?_), x4, y5⟩
  · have i209 : sI τ 209 = sI σ 209 := by funext m; exact mf_I x4 rfl
    simp only [FT, i209, mf_F x4 (show hU 210 = false from rfl), mf_F x4 (show hU 211 = false from rfl)]; exact T
  · by_cases c : t = b
    · subst c; exact y3
    · have hh := MM'.2.1 t ht
      have t0 := (MM'.2.2.2.1 t ht).1
      have imh : mh τm t = mh μ t := by funext i; exact mf_I y5 rfl
      simp only [HM] at hh ⊢
      rw [y4 t t0 c, mf_I y5 rfl, imh]
      exact hm_mv (fun k => mf_mlv y5 rfl rfl rfl) hh
  · have i28 : sI τm 28 = sI μ 28 := by funext m; exact mf_I y5 rfl
    have f29 : sF τm 29 = sF μ 29 := mf_F y5 rfl
    have f30 : sF τm 30 = sF μ 30 := mf_F y5 rfl
    simp only [FTm, i28, f29, f30]; exact T'
  · refine F2_mono (E c d hcd).1 (fun x y _ _ r => ?_)
    obtain ⟨r1, r2, r3, r4⟩ := r
    refine ⟨?_, ?_, by rw [mf_I x4 rfl]; exact r3, by rw [mf_I x4 rfl]; exact r4⟩
    · rw [mf_I x4 rfl, mf_J x4 rfl, mf_I y5 rfl, mf_J y5 rfl]; exact r1
    · rw [mf_I x4 rfl, mf_J x4 rfl, mf_I y5 rfl, mf_J y5 rfl]; exact r2
  · rw [mf_I x4 rfl, mf_I y5 rfl]; exact (E c d hcd).2.1
  · rw [mf_J x4 rfl, mf_I y5 rfl]; exact (E c d hcd).2.2
  · simp only [hU, List.contains_cons, List.contains_nil, Bool.or_eq_false_iff, beq_eq_false_iff_ne]
    refine ⟨?_, ?_, ?_, ?_, ?_, ?_, trivial⟩ <;> omega
  · simp only [List.contains_cons, List.contains_nil, Bool.or_eq_false_iff, beq_eq_false_iff_ne]
    refine ⟨?_, ?_, ?_, trivial⟩ <;> omega
