/-! LAYER 2: the two readers: words and strings -/
theorem tx_ad {x l : Int32} {m : Int} (x0 : 0 ≤ x) (l0 : 0 ≤ l) (l1 : l ≤ 2000) (h : x.toInt + 2000 ≤ m) (hm : m ≤ 72000) : (x + l).toInt ≤ m ∧ (x + l).toInt = x.toInt + l.toInt := by
  have a := tI_le.mp l1
  rw [show (2000 : Int32).toInt = 2000 from rfl] at a
  have e := tI_ad (a := x) (b := l) x0 (by rw [tI_le, show (1000000 : Int32).toInt = 1000000 from rfl]; omega) l0 (Int32.le_trans l1 (by decide))
  exact ⟨by omega, e⟩
theorem tx_lt {x : Int32} {m : Nat} (hm : m < 100000) (h : x.toInt < m) : x < Int32.ofNat m := by
  rw [tI_lt, tI_lit (by omega)]; exact h
/-- the text at hand becomes a string on both sides -/
theorem txt_2 {N : Nat} (hN : BIG ≤ N) {n p e : Int32} {t : Int32 → Int32} {A : Nat → Int} {w : WD} {o : Nat} {c : Int} {σ μ : mS} (h : PS n t A w p e o c σ μ) {v' : Nat} {p' L L' : Int32} (hv' : m_ba v' L') (hne' : v' ≠ 2 ∧ v' ≠ 3 ∧ v' ≠ 4 ∧ v' ≠ 7) (L0 : 0 ≤ L) (L1 : L ≤ 2000) (p0' : 0 ≤ p') (pn' : p' ≤ p' + L) (pL' : p' + L ≤ L') (hB : ∀ k, 0 ≤ k → k < L → isB (sI σ 711 (0 + k)) ∧ sI μ v' (p' + k) = sI σ 711 (0 + k)) (hc : 20 * p.toInt + (c + 5 + L.toInt) ≤ 20 * e.toInt + 700) : ∃ hx s τ τm, xx2_text_2 N σ 711 0 L = some (hx, τ) ∧ mm_intern N μ v' p' L = some (s, τm) ∧ PS n t A (wAddX w hx s) p e o (c + 5 + L.toInt) τ τm ∧ m_fr fTXx σ τ ∧ m_fr fTXm μ τm := by
  have pn := PS_pn h
  obtain ⟨h1, h2, ⟨o1, o2, o3⟩, ⟨S, U, FN⟩, h5, h6, h7⟩ := h
  have hA := h6.2.1
  have hM := h6.2.2.1
  obtain ⟨a1, a2, a3, a4, a5, a6, a7, a8⟩ := hA
  obtain ⟨_, _, _, _, _, _, _, _, _, m5, m6⟩ := hM
  obtain ⟨b1, b2, b3, b4⟩ := h5
  have x133 : 0 ≤ sF σ 133 := by
    obtain ⟨_, ⟨sl, q⟩, _⟩ := S
    exact q.2.2.1
  have x6 : 0 ≤ sF μ 6 := by
    obtain ⟨_, _, _, ⟨bk, q⟩, _⟩ := S
    exact q.2.2.1
  unfold tF at b3 b4 m5 m6
  have u1 := tx_ad (m := 69500) x133 L0 L1 (by omega) (by omega)
  have u2 := tx_ad (m := 71500) x6 L0 L1 (by omega) (by omega)
  have l5 := tI_le.mp L1
  rw [show (2000 : Int32).toInt = 2000 from rfl] at l5
  have l6 := tI_le.mp L0
  rw [show (0 : Int32).toInt = 0 from rfl] at l6
  have z : (0 : Int32) ≤ 0 + L := by rw [Int32.zero_add]; exact L0
  have z2 : (0 : Int32) + L ≤ 2004 := by rw [Int32.zero_add]; exact Int32.le_trans L1 (by decide)
  obtain ⟨hx, s, τ, τm, e1, e2, S', U', P1, P2, f, g⟩ := text_2 hN (v := 711) (L := 2004) S U (by unfold x_ba; decide +kernel) (by decide) (by decide) hv' hne' (Int32.le_refl _) L0 z z2 p0' pn' pL' (by rw [tI_lt, show (44000 : Int32).toInt = 44000 from rfl]; omega) (by rw [tI_le, show (70000 : Int32).toInt = 70000 from rfl]; omega) (by rw [tI_lt, show (30000 : Int32).toInt = 30000 from rfl]; omega) (by rw [tI_le, show (72000 : Int32).toInt = 72000 from rfl]; omega) (Int32.le_trans L1 (by decide)) hB
  have q134 : (sF τ 134).toInt ≤ (sF σ 134).toInt + 1 ∧ (sF τ 133).toInt ≤ (sF σ 133).toInt + L.toInt := by
    obtain ⟨_, _, _, _, _, _, d, _⟩ := P1
    rcases d with d | ⟨_, d1, d2⟩
    · rw [d]; exact ⟨by omega, by omega⟩
    · have : 12000 ≤ sF σ 134 := by
        obtain ⟨_, ⟨sl, q⟩, _⟩ := S
        exact q.1
      have l := tI_le.mp this
      rw [show (12000 : Int32).toInt = 12000 from rfl] at l
      rw [d1, d2, tI_up (by omega) (by omega), u1.2]
      exact ⟨Int.le_refl _, Int.le_refl _⟩
  have q5 : (sF τm 5).toInt ≤ (sF μ 5).toInt + 1 ∧ (sF τm 6).toInt ≤ (sF μ 6).toInt + L.toInt := by
    obtain ⟨_, _, _, _, _, _, d, _⟩ := P2
    rcases d with d | ⟨_, d1, d2⟩
    · rw [d]; exact ⟨by omega, by omega⟩
    · have : 0 ≤ sF μ 5 := by
        obtain ⟨_, _, _, ⟨bk, q⟩, _⟩ := S
        exact q.1
      have l := tI_le.mp this
      rw [show (0 : Int32).toInt = 0 from rfl] at l
      rw [d1, d2, tI_up (by omega) (by omega), u2.2]
      exact ⟨Int.le_refl _, Int.le_refl _⟩
  refine ⟨hx, s, τ, τm, e1, e2, ⟨?_, ⟨by rw [mf_F f rfl]; exact h2.1, by rw [mf_F g rfl]; exact h2.2⟩, ⟨by rw [mf_F f rfl]; exact o1, by rw [mf_F g rfl]; exact o2, o3⟩, ⟨S', U', FNR_fr FN f g rfl rfl rfl rfl rfl⟩, ?_, ?_, hc⟩, f, g⟩
  · refine TkH_fr h1 f g (fun k k0 k1 => ?_) rfl (fun k k0 k1 => ?_) rfl rfl
    · simp only [fTXx, List.contains_cons, List.contains_nil, Bool.or_eq_false_iff, beq_eq_false_iff_ne]
      (repeat' (first | exact trivial | omega | apply And.intro))
    · simp only [fTXm, List.contains_cons, List.contains_nil, Bool.or_eq_false_iff, beq_eq_false_iff_ne]
      (repeat' (first | exact trivial | omega | apply And.intro))
  · unfold BXr tF
    rw [mf_F f (k := 584) rfl, mf_F f (k := 590) rfl]
    unfold tF at b1 b2
    exact ⟨⟨b1.1, by omega⟩, ⟨b2.1, by omega⟩, by omega, by omega⟩
  · obtain ⟨i0, i1, ⟨m1, m2, m3, m4, m5', m6', m7, m8, m9, m10, m11⟩, ⟨w1, w2, w3, w4, w5⟩, l⟩ := h6
    have y : ∀ k, [75, 82, 84, 97, 99, 114, 120, 122, 107, 85, 106, 138, 140, 133].contains k = true → sF τm k = sF μ k := fun k hk => mf_F g (by
      have := fin_mem (Q := fun k => !fTXm k) (l := [75, 82, 84, 97, 99, 114, 120, 122, 107, 85, 106, 138, 140, 133]) rfl k hk
      simpa using this)
    have yt : ∀ k, [75, 82, 84, 97, 99, 114, 120, 122, 107, 85, 106, 138, 140, 133].contains k = true → tF τm k = tF μ k := fun k hk => by unfold tF; rw [y k hk]
    have yi : ∀ k, [95, 96, 90, 87, 117, 121, 100, 102, 103].contains k = true → ∀ j, sI τm k j = sI μ k j := fun k hk j => mf_I g (by
      have := fin_mem (Q := fun k => !fTXm k) (l := [95, 96, 90, 87, 117, 121, 100, 102, 103]) rfl k hk
      simpa using this)
    refine ⟨⟨by omega, by omega⟩, i1, ⟨?_, ?_, ?_, ?_, ?_, ?_, ?_, ?_, ?_, ?_, ?_⟩, ⟨?_, ?_, ?_, ?_, ?_⟩, ?_⟩
    · rw [yt 75 rfl]; omega
    · rw [yt 82 rfl]; omega
    · rw [yt 84 rfl]; omega
    · rw [yt 97 rfl]; omega
    · rw [yt 99 rfl]; omega
    · rw [yt 114 rfl]; omega
    · rw [yt 120 rfl]; omega
    · rw [yt 122 rfl]; omega
    · rw [yt 107 rfl]; omega
    · unfold tF at m10 ⊢; omega
    · unfold tF at m11 ⊢; omega
    · unfold MWl; rw [y 97 rfl, y 99 rfl, y 85 rfl]; simp only [yi 95 rfl, yi 96 rfl]; exact w1
    · unfold MWc; rw [y 85 rfl, y 82 rfl]; simp only [yi 90 rfl, yi 87 rfl]; exact w2
    · unfold MWg; rw [y 120 rfl, yt 75 rfl]; simp only [yi 117 rfl]; exact w3
    · unfold MWk; rw [y 122 rfl, yt 75 rfl]; simp only [yi 121 rfl]; exact w4
    · unfold MWb; rw [y 106 rfl, y 97 rfl, y 114 rfl, y 120 rfl]; simp only [yi 100 rfl, yi 102 rfl, yi 103 rfl]; exact w5
    · unfold MLo; rw [yt 85 rfl, yt 106 rfl, yt 138 rfl, yt 140 rfl, yt 133 rfl]; exact l
theorem wt_1 {p e n k : Int32} (p0 : 0 ≤ p) (pe : p ≤ e) (en : e ≤ n) (n1 : n ≤ 8000) (h : e - p ≤ 40) (k0 : 0 ≤ k) (k1 : k < e - p) : 0 ≤ p + k ∧ p + k < n := ⟨by lia, by lia⟩
theorem wt_2 {p e n : Int32} (p0 : 0 ≤ p) (pe : p ≤ e) (en : e ≤ n) (n1 : n ≤ 8000) : 0 ≤ e - p ∧ p ≤ p + (e - p) ∧ p + (e - p) ≤ 8000 ∧ p + (e - p) = e := ⟨by lia, by lia, by lia, by lia⟩
/-- a word's string -/
theorem wtx_2 {N : Nat} (hN : BIG ≤ N) {n p e : Int32} {t : Int32 → Int32} {A : Nat → Int} {w : WD} {o : Nat} {c : Int} {σ μ : mS} (h : PS n t A w p e o c σ μ) (hk : sF σ 707 = 2) (hc : c ≤ 600) : ∃ hx s τ τm, xx2_text_2 N σ 711 0 (sF σ 712) = some (hx, τ) ∧ mm_intern N μ 0 (sF μ 61) (sF μ 62 - sF μ 61) = some (s, τm) ∧ PS n t A (wAddX w hx s) p e o (c + 5 + (e.toInt - p.toInt)) τ τm ∧ p.toInt + 1 ≤ e.toInt ∧ m_fr fTXx σ τ ∧ m_fr fTXm μ τm := by
  have pn := PS_pn h
  have h' := h
  obtain ⟨⟨⟨T, X, Y, B⟩, ⟨p0, pe, en⟩, ⟨b1, b2, b3⟩, _, _, ⟨e1, e2⟩, _, kd, _⟩, _⟩ := h
  rcases kd with q | ⟨pe1, q | q | q | q | ⟨_, ⟨q1, q2⟩, q3⟩⟩
  · rw [q.1] at hk; exact absurd hk (by decide)
  · rw [q] at hk; exact absurd hk (by decide)
  · rw [hk] at q; exact absurd q.1 (by decide)
  · rw [q.1] at hk; exact absurd hk (by decide)
  · rw [q.1] at hk; exact absurd hk (by decide)
  have n1 := T.1.2
  have w2 := wt_2 p0 pe en n1
  have L1 : e - p ≤ 2000 := Int32.le_trans q2 (by decide)
  have ee : (e - p).toInt = e.toInt - p.toInt := by
    have := tI_ad (a := p) (b := e - p) p0 (Int32.le_trans pe (Int32.le_trans en (Int32.le_trans n1 (by decide)))) w2.1 (Int32.le_trans q2 (by decide))
    rw [w2.2.2.2] at this
    omega
  have pl := tI_lt.mp pe1
  have l40 := tI_le.mp q2
  rw [show (40 : Int32).toInt = 40 from rfl] at l40
  obtain ⟨hx, s, τ, τm, r1, r2, r3, r4, r5⟩ := txt_2 hN h' (v' := 0) (p' := p) (L := e - p) (L' := 8000) (by unfold m_ba; decide +kernel) (by decide) w2.1 L1 p0 w2.2.1 w2.2.2.1 (fun k k0 k1 => by
    have w1 := wt_1 p0 pe en n1 q2 k0 k1
    rw [Int32.zero_add, q3 k k0 k1, (B (p + k) w1.1 w1.2).1]
    refine ⟨?_, rfl⟩
    rw [← (B (p + k) w1.1 w1.2).1]
    exact (B (p + k) w1.1 w1.2).2) (by omega)
  rw [q1, b3, e2]
  refine ⟨hx, s, τ, τm, r1, r2, ?_, by omega, r4, r5⟩
  rw [← ee]
  exact r3
/-- a quoted string -/
theorem stx_2 {N : Nat} (hN : BIG ≤ N) {n p e : Int32} {t : Int32 → Int32} {A : Nat → Int} {w : WD} {o : Nat} {c : Int} {σ μ : mS} (h : PS n t A w p e o c σ μ) (hk : sF σ 707 = 4) (hc : c ≤ 600) : ∃ hx s τ τm L, xx2_text_2 N σ 711 0 (sF σ 712) = some (hx, τ) ∧ mm_intern N μ 65 0 (sF μ 66) = some (s, τm) ∧ PS n t A (wAddX w hx s) p e o (c + 5 + L) τ τm ∧ (0 ≤ L ∧ p.toInt + L ≤ e.toInt ∧ p.toInt + 1 ≤ e.toInt) ∧ m_fr fTXx σ τ ∧ m_fr fTXm μ τm := by
  have pn := PS_pn h
  have h' := h
  obtain ⟨⟨⟨T, X, Y, B⟩, ⟨p0, pe, en⟩, ⟨b1, b2, b3⟩, _, _, ⟨e1, e2⟩, _, kd, _⟩, _⟩ := h
  rcases kd with q | ⟨pe1, q | q | q | ⟨_, L, ⟨⟨L0, L1⟩, s1, s2, s3⟩, SL⟩ | ⟨q, _⟩⟩
  · rw [q.1] at hk; exact absurd hk (by decide)
  · rw [q] at hk; exact absurd hk (by decide)
  · rw [hk] at q; exact absurd q.1 (by decide)
  · rw [q.1] at hk; exact absurd hk (by decide)
  · have l0 := tI_le.mp L0
    rw [show (0 : Int32).toInt = 0 from rfl] at l0
    have pl := tI_lt.mp pe1
    obtain ⟨hx, s, τ, τm, r1, r2, r3, r4, r5⟩ := txt_2 hN h' (v' := 65) (p' := 0) (L := L) (L' := 2004) (by unfold m_ba; decide +kernel) (by decide) L0 L1 (Int32.le_refl _) (by rw [Int32.zero_add]; exact L0) (by rw [Int32.zero_add]; exact Int32.le_trans L1 (by decide)) (fun k k0 k1 => by
      rw [Int32.zero_add]
      exact ⟨(s3 k k0 k1).2, (s3 k k0 k1).1.symm⟩) (by omega)
    rw [s1, s2]
    exact ⟨hx, s, τ, τm, L.toInt, r1, r2, r3, ⟨l0, by omega, by omega⟩, r4, r5⟩
  · rw [hk] at q
    rcases q with q | q
    · exact absurd q (by decide)
    · exact absurd q.1 (by decide)
