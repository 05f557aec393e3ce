/-! LAYER 2: the two sides: the whole heap: tables, strings, lengths, boxes -/
theorem table_h {N : Nat} {K : Int32 → Int32 → Int32 → Prop} {q : Int} {w : WD} {σ μ : mS} (H : RH K q w σ μ) :
    (xx3_table N σ = some (.error (1101, σ)) ∧ mm_makeTable N μ = bd (mm_breakOff N μ 3) (fun z => some (-1, z)))
    ∨ (∃ a b τ τm, xx3_table N σ = some (.ok (a, τ)) ∧ mm_makeTable N μ = some (b, τm) ∧ RH K q (wAddT w a b) τ τm ∧ 0 ≤ a ∧ 0 ≤ b ∧ m_fr hT σ τ ∧ m_fr mT μ τm) := by
  have sr := RH_ser H
  obtain ⟨W, S, ⟨es, es', R⟩, F, B, s1, s2, s3, s4⟩ := H
  rcases table_2 (N := N) W S R s1 s2 sr with h | ⟨a, b, τ, τm, r1, r2, a0, a1, b0, b1, r3, r4, r5, r6, r7, r8, r9, r10, r11⟩
  · exact .inl h
  · right
    have f48 : sF τm 48 = sF μ 48 := mf_F r11 rfl
    have t5 := r5.2.2.2.1.2.2.2.2.1
    have t5' := R.2.2.2.1.2.2.2.2.1
    have l1 : (tM (wAddT w a b)).length = (tM w).length + 1 := by simp [tM, wAddT, wT]
    refine ⟨a, b, τ, τm, r1, r2, ⟨r3, r4, ⟨_, _, r5⟩, RF_fr F wAddT_le rfl r10 r11 (fun k a b => ?_) (fun k a b c => ?_), RB_fr B wAddT_le rfl r10 r11 (fun k a b => ?_) (fun k a b => ?_), r6, by rw [r7]; lia, ?_, s4⟩, a0, b0, r10, r11⟩
    · simp only [hT, List.contains_cons, List.contains_nil, Bool.or_eq_false_iff, beq_eq_false_iff_ne]
      repeat' (first | exact trivial | omega | apply And.intro)
    · simp only [mT, List.contains_cons, List.contains_nil, Bool.or_eq_false_iff, beq_eq_false_iff_ne]
      repeat' (first | exact trivial | omega | apply And.intro)
    · simp only [hT, List.contains_cons, List.contains_nil, Bool.or_eq_false_iff, beq_eq_false_iff_ne]
      repeat' (first | exact trivial | omega | apply And.intro)
    · simp only [mT, List.contains_cons, List.contains_nil, Bool.or_eq_false_iff, beq_eq_false_iff_ne]
      repeat' (first | exact trivial | omega | apply And.intro)
    · have e18 : (sF τm 18).toInt = (sF μ 18).toInt + 1 := by
        rw [tI_lt] at sr
        have z2 : (2147483647 : Int32).toInt = 2147483647 := rfl
        have := tI_rng (sF μ 18)
        rw [r7, tI_add] <;> simp only [show (1 : Int32).toInt = 1 from rfl] <;> omega
      rw [e18, f48]
      omega
theorem make_h {N : Nat} (hN : BIG ≤ N) {K : Int32 → Int32 → Int32 → Prop} {q : Int} {w : WD} {σ μ : mS} {v : Nat} {p n L : Int32} (H : RH K q w σ μ) (hv : x_ba v L) (hne : v ≠ 128 ∧ v ≠ 129 ∧ v ≠ 131 ∧ v ≠ 136) (p0 : 0 ≤ p) (n0 : 0 ≤ n) (n1 : n ≤ 4400) (pn : p ≤ p + n) (pL : p + n ≤ L) (hn : sF μ 17 = n) (hb : ∀ k, 0 ≤ k → k < n → sI σ v (p + k) &&& 255 = sI μ 16 k &&& 255) :
    (xx2_make N σ v p n = some (.error (1101, σ)) ∧ mm_makeString N μ = bd (mm_breakOff N μ 3) (fun z => some (-1, z)))
    ∨ (∃ a b τ τm, xx2_make N σ v p n = some (.ok (a, τ)) ∧ mm_makeString N μ = some (b, τm) ∧ RH K q (wAddS w a b) τ τm ∧ 0 ≤ a ∧ 0 ≤ b ∧ m_fr sK σ τ ∧ m_fr sN μ τm ∧ VV (wAddS w a b) 4 (Int32.toInt64 a) 3 (Int32.toInt64 b) ∧ x_sz τ a = n ∧ (∀ c d, (c, d) ∈ wS w ∨ (c, d) ∈ wX w → x_sm σ τ c ∧ m_sm μ τm d)) := by
  obtain ⟨W, S, ⟨es, es', R⟩, F, B, s1, s2, s3, s4⟩ := H
  rcases make_2 hN S hv hne p0 n0 n1 pn pL hn hb with h | ⟨a, b, τ, τm, r1, r2, r3, a0, a1, b0, b1, r4, r5, r6, r7, _, _, r8⟩
  · exact .inl h
  · right
    have f18 : sF τm 18 = sF μ 18 := mf_F r5 rfl
    have f29 : sF τm 29 = sF μ 29 := mf_F r5 rfl
    have f48 : sF τm 48 = sF μ 48 := mf_F r5 rfl
    have sk : ∀ k, 192 ≤ k → sK k = false := fun k hk => by
      exact sK_f (by omega)
    have sn : ∀ k, 16 ≤ k → sN k = false := fun k hk => by
      simp only [sN, List.contains_cons, List.contains_nil, Bool.or_eq_false_iff, beq_eq_false_iff_ne]
      repeat' (first | exact trivial | omega | apply And.intro)
    refine ⟨a, b, τ, τm, r1, r2, ⟨wAddS_ok W, r3, ⟨es, es', RT_sm R wAddS_le rfl r4 r5 r6 r7⟩, RF_fr F wAddS_le rfl r4 r5 (fun k a b => sk k (by omega)) (fun k a b c => sn k (by omega)), RB_fr B wAddS_le rfl r4 r5 (fun k a b => sk k (by omega)) (fun k a b => sn k (by omega)), ?_, by rw [f18]; exact s2, by rw [f18, f29, f48]; exact s3, s4⟩, a0, by lia, r4, r5, ?_, r8, r7⟩
    · rw [f18, mf_G r4 rfl]; exact s1
    · exact .inr (.inr (.inr (.inr (.inl ⟨rfl, rfl, a, b, rfl, rfl, .inl (List.mem_append_right _ (by simp))⟩))))
theorem length_h {N : Nat} (hN : BIG ≤ N) {K : Int32 → Int32 → Int32 → Prop} {q : Int} {w : WD} {σ μ : mS} {a b : Int32} (H : RH K q w σ μ) (h : (a, b) ∈ wT w) : ∃ n τ τm, xx3_length N σ a = some (n, τ) ∧ mm_length N μ b = some (Int32.toInt64 n, τm) ∧ 0 ≤ n ∧ n ≤ 20000 ∧ RH K q w τ τm ∧ m_fr hU σ τ ∧ m_fr (fun k => [25, 42, 43].contains k) μ τm := by
  obtain ⟨W, S, ⟨es, es', R⟩, F, B, s1, s2, s3, s4⟩ := H
  obtain ⟨n, τ, τm, r1, r2, r3, r4, r5, r6, r7, r8⟩ := length_2 hN S R h
  have f18 : sF τm 18 = sF μ 18 := mf_F r8 rfl
  have f29 : sF τm 29 = sF μ 29 := mf_F r8 rfl
  have f48 : sF τm 48 = sF μ 48 := mf_F r8 rfl
  have hu : ∀ k, 209 ≤ k → hU k = false := fun k hk => by
    simp only [hU, List.contains_cons, List.contains_nil, Bool.or_eq_false_iff, beq_eq_false_iff_ne]
    repeat' (first | exact trivial | omega | apply And.intro)
  have hm : ∀ k, 44 ≤ k → (fun k => [25, 42, 43].contains k) k = false := fun k hk => by
    simp only [List.contains_cons, List.contains_nil, Bool.or_eq_false_iff, beq_eq_false_iff_ne]
    repeat' (first | exact trivial | omega | apply And.intro)
  refine ⟨n, τ, τm, r1, r2, r3, r4, ⟨W, r6, ⟨es, es', r5⟩, RF_fr F wle_rfl rfl r7 r8 (fun k a b => hu k (by omega)) (fun k a b c => hm k (by omega)), RB_fr B wle_rfl rfl r7 r8 (fun k a b => hu k (by omega)) (fun k a b => hm k (by omega)), ?_, by rw [f18]; exact s2, by rw [f18, f29, f48]; exact s3, s4⟩, r7, r8⟩
  rw [f18, mf_G r7 rfl]; exact s1
theorem FS_perm {fs : Int32 → Int32} {c M p : Int32} {o o' : List Int32} (H : FS fs c M p o) (h : o.Perm o') : FS fs c M p o' := by
  obtain ⟨h1, h2, h3, h4, h5, h6, h7⟩ := H
  exact ⟨h1, h2, fun i i0 i1 => ⟨(h3 i i0 i1).1, (h3 i i0 i1).2.1, fun q => (h3 i i0 i1).2.2 (h.mem_iff.mpr q)⟩, h4, h.nodup_iff.mp h5, fun x hx => h6 x (h.mem_iff.mpr hx), by rw [← h.length_eq]; exact h7⟩
def wAddB (w : WD) (a b : Int32) : WD := (wS w, wX w, wT w, wF w, (a, b) :: wB w, wC w)
theorem wAddB_le {w : WD} {a b : Int32} : wle w (wAddB w a b) := ⟨fun _ h => h, fun _ h => h, fun _ h => h, fun _ h => h, fun p h => List.mem_cons_of_mem _ h, fun _ h => h⟩
theorem box_h {N : Nat} {K : Int32 → Int32 → Int32 → Prop} {q : Int} {w : WD} {σ μ : mS} {tx tm : Int32} {vx vm : Int64} (H : RH K q w σ μ) (v : VV w tx vx tm vm) :
    (xx3_box N σ tx vx = some (.error (1101, σ)) ∧ mm_makeBox N μ tm vm = bd (mm_breakOff N μ 3) (fun z => some (-1, z)))
    ∨ (∃ a b τ τm, xx3_box N σ tx vx = some (.ok (a, τ)) ∧ mm_makeBox N μ tm vm = some (b, τm) ∧ RH K q (wAddB w a b) τ τm ∧ 0 ≤ a ∧ 0 ≤ b ∧ m_fr bXk σ τ ∧ m_fr bMk μ τm) := by
  obtain ⟨W, S, ⟨es, es', R⟩, F, B, s1, s2, s3, s4⟩ := H
  obtain ⟨g0, g1, g2, g3, _⟩ := VV_tag v
  obtain ⟨⟨fb, B1⟩, B2, B3⟩ := B
  have lX : ((wB w).map Prod.fst).length = (wB w).length := List.length_map ..
  have lM : ((wB w).map Prod.snd).length = (wB w).length := List.length_map ..
  have b4 := B1.2.2.2.1
  have b5 := B2.1.2.2.2.2.2.2
  have z1 : (12000 : Int32).toInt = 12000 := rfl
  have z0 : (0 : Int32).toInt = 0 := rfl
  have cnt : sF σ 237 = 12000 ↔ sF μ 56 = 0 := by
    rw [tI_eq, tI_eq, z1, z0]
    omega
  by_cases c : sF σ 237 = 12000
  · exact .inl ⟨box_x0 c, box_m0 (cnt.mp c)⟩
  · right
    obtain ⟨a, τ, fb', _, x2, x3, x4, x5, x6, x7, x8, x9, x10⟩ := box_x (N := N) (v := vx) B1 g0 g1 c
    obtain ⟨b, τm, y1, y2, y3, y4, y5, y6, y7, y8, y9⟩ := box_m (N := N) (v := vm) B2 g2 (by lia) (fun z => c (cnt.mpr z))
    have f18 : sF τm 18 = sF μ 18 := mf_F y9 rfl
    have f29 : sF τm 29 = sF μ 29 := mf_F y9 rfl
    have f48 : sF τm 48 = sF μ 48 := mf_F y9 rfl
    have bx : ∀ k, k ≤ 232 → bXk k = false := fun k hk => by
      simp only [bXk, List.contains_cons, List.contains_nil, Bool.or_eq_false_iff, beq_eq_false_iff_ne]
      repeat' (first | exact trivial | omega | apply And.intro)
    have bm : ∀ k, k ≤ 52 → bMk k = false := fun k hk => by
      simp only [bMk, List.contains_cons, List.contains_nil, Bool.or_eq_false_iff, beq_eq_false_iff_ne]
      repeat' (first | exact trivial | omega | apply And.intro)
    have wok : WOK (wAddB w a b) := ⟨W.1, W.2.1, W.2.2.1, bij_cons W.2.2.2.1 x4 y3, W.2.2.2.2⟩
    have ne : ∀ c d, (c, d) ∈ wB w → c ≠ a ∧ d ≠ b := fun c d q => ⟨fun z => x4 (by rw [← z]; exact List.mem_map.mpr ⟨(c, d), q, rfl⟩), fun z => y3 (by rw [← z]; exact List.mem_map.mpr ⟨(c, d), q, rfl⟩)⟩
    refine ⟨a, b, τ, τm, x2, y1, ⟨wok, RS_fr (w := wAddB w a b) S x10 y9 (fun k a b => bx k (by omega)) (fun k a b c => bm k (by omega)), ⟨es, es', RT_fr R wAddB_le rfl x10 y9 (fun k h => bx k (by omega)) (fun k h => bm k (by omega))⟩, RF_fr F wAddB_le rfl x10 y9 (fun k a b => bx k (by omega)) (fun k a b c => bm k (by omega)), ⟨⟨fb', x3⟩, ?_, fun c d h => ?_⟩, ?_, by rw [f18]; exact s2, by rw [f18, f29, f48]; exact s3, s4⟩, x5, y4, x10, y9⟩
    · have pm : ((wB w).map Prod.snd ++ [b]).Perm (b :: (wB w).map Prod.snd) := by
        simpa using List.perm_append_comm (l₁ := (wB w).map Prod.snd) (l₂ := [b])
      refine ⟨FS_perm y2.1 pm, ?_⟩
      have := y2.2
      rw [pm.length_eq] at this
      exact this
    · rcases List.mem_cons.mp h with z | z
      · obtain ⟨rfl, rfl⟩ := Prod.mk.inj z
        rw [x7 c x5, x8 c x5, y6 d y4, y7 d y4, if_pos rfl, if_pos rfl, if_pos rfl, if_pos rfl]
        exact VV_mono wAddB_le v
      · obtain ⟨n1, n2⟩ := ne c d z
        have c0 := (B1.2.2.1 c (List.mem_append_left _ (List.mem_map.mpr ⟨(c, d), z, rfl⟩))).1
        have d0 := (B2.1.2.2.2.2.2.1 d (List.mem_map.mpr ⟨(c, d), z, rfl⟩)).1
        rw [x7 c c0, x8 c c0, y6 d d0, y7 d d0, if_neg n1, if_neg n1, if_neg n2, if_neg n2]
        exact VV_mono wAddB_le (B3 c d z)
    · rw [f18, mf_G x10 rfl]; exact s1
