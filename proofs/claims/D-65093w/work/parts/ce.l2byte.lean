/-! LAYER 2: functions of the house: string.byte -/
theorem texts_19 {N : Nat} {z : mS} : xx8_texts N z 19 = bx (xx8_bytes N z) (fun z8 => xx8_texts_b186 N z8) := rfl
theorem ofs_19 {N : Nat} {z : mS} : mm_ofStrings N z 19 = bd (mm_isText N z 1 19) (fun z12 => bd (mm_unless N z12.2 z12.1) (fun z13 => if sF z13 227 = 0 then bd (mm_mayBeNumber N z13 2 19) (fun z20 => if z20.1 = 0 then mm_ofStrings_167 N z20.2 else bd (mm_mayBeNumber N z20.2 3 19) (fun z21 => if z21.1 = 0 then mm_ofStrings_167 N z21.2 else mm_ofStrings_168 N 1 z21.2)) else some z13)) := rfl
theorem oL_s {m : Nat} (h : m < 1000000) : Int32.toInt64 (Int32.ofNat m) + 1 = Int32.toInt64 (Int32.ofNat (m + 1)) := by
  have y1 : (1 : Int64).toInt = 1 := rfl
  rw [L_eq, L_64, tI_lit (by omega), L_add] <;> (rw [L_64, tI_lit (by omega), y1]; omega)
/-- bytes are given -/
theorem byte_lp {N : Nat} {L : LQ} {w : WD} {l : List Int32} (len : l.length ≤ 4000) {T : Nat} (hT : T ≤ l.length) : ∀ (c m n n' : Nat) (g : Int32) (σ μ : mS), m + c = T → c + 1 < n → c + 1 < n' → LC L w g σ μ → g.toInt + c ≤ 100 → hasL (σ.2.2.1 520) 0 l → hasL (μ.2.2.1 223) 0 l → ∃ τ τm g', xx8_bytes_b72 N n (Int32.toInt64 (Int32.ofNat T)) (Int32.toInt64 (Int32.ofNat (m + 1))) σ = some (.ok τ) ∧ mm_giveBytes_70 N n' (Int32.toInt64 (Int32.ofNat T)) (Int32.toInt64 (Int32.ofNat (m + 1))) μ = some τm ∧ LC L w g' τ τm := by
  intro c
  induction c with
  | zero =>
    intro m n n' g σ μ hc hn hn' H hg h1 h2
    obtain ⟨n, rfl⟩ : ∃ j, n = j + 1 := ⟨n - 1, by omega⟩
    obtain ⟨n', rfl⟩ : ∃ j, n' = j + 1 := ⟨n' - 1, by omega⟩
    have lt1 : 0 < lg_cmp (Int32.toInt64 (Int32.ofNat (m + 1))) (Int32.toInt64 (Int32.ofNat T)) := lgc_gt.mpr (by rw [L_lt, L_64, L_64, tI_lit (by omega), tI_lit (by omega)]; omega)
    rw [xx8_bytes_b72, mm_giveBytes_70, if_pos lt1, if_pos lt1]
    exact ⟨σ, μ, g, rfl, rfl, H⟩
  | succ c ih =>
    intro m n n' g σ μ hc hn hn' H hg h1 h2
    obtain ⟨n, rfl⟩ : ∃ j, n = j + 1 := ⟨n - 1, by omega⟩
    obtain ⟨n', rfl⟩ : ∃ j, n' = j + 1 := ⟨n' - 1, by omega⟩
    have lt1 : ¬ 0 < lg_cmp (Int32.toInt64 (Int32.ofNat (m + 1))) (Int32.toInt64 (Int32.ofNat T)) := fun q => by
      have := lgc_gt.mp q
      rw [L_lt, L_64, L_64, tI_lit (by omega), tI_lit (by omega)] at this; omega
    have g0 : 0 ≤ g := H.2.2.2.1.2.2.1
    have g1 : g < 100 := by
      rw [tI_lt]
      have z : (100 : Int32).toInt = 100 := rfl
      omega
    have e1 : σ.2.2.1 520 m &&& 255 = l.getD m 0 := by have := h1 m (by omega); rw [Nat.zero_add] at this; exact this
    have e2 : μ.2.2.1 223 m &&& 255 = l.getD m 0 := by have := h2 m (by omega); rw [Nat.zero_add] at this; exact this
    have vn : VV w 3 (Int32.toInt64 (l.getD m 0)) 2 (Int32.toInt64 (l.getD m 0)) := .inr (.inr (.inr (.inl ⟨rfl, rfl, rfl⟩)))
    obtain ⟨τ, τm, b1, b2, b3, b4, b5⟩ := give_L (N := N) H g1 vn
    have gs : (g + 1).toInt = g.toInt + 1 := by
      have z1 : (1 : Int32).toInt = 1 := rfl
      rw [tI_le] at g0
      have z0 : (0 : Int32).toInt = 0 := rfl
      rw [tI_add] <;> omega
    obtain ⟨τ', τm', g', r1, r2, r3⟩ := ih (m + 1) n n' (g + 1) τ τm (by omega) (by omega) (by omega) b3 (by rw [gs]; omega) (by rw [b4.2.2.1 520 rfl]; exact h1) (by rw [b5.2.2.1 223 rfl]; exact h2)
    refine ⟨τ', τm', g', ?_, ?_, r3⟩
    · rw [xx8_bytes_b72, if_neg lt1, h_ll, on_1, gd_oN (by omega) (by decide), oN_cl (by omega), e1, xx8_giveNumber, b1, bx_so, bx_so, lt, oL_s (by omega)]
      exact r1
    · rw [mm_giveBytes_70, if_neg lt1, h_ll, on_1, gd_oN (by omega) (by decide), oN_cl (by omega), e2, b2, bd_so, lt, oL_s (by omega)]
      exact r2
/-- from F to T (U) -/
theorem byte_2 {L : LQ} (E : EVok (lE L)) {w : WD} {l : List Int32} (len : l.length ≤ 4000) {F T U : Int64} {σ μ : mS} (H : LC L w 0 σ μ) (h1 : hasL (σ.2.2.1 520) 0 l) (h2 : hasL (μ.2.2.1 223) 0 l) (f1 : 1 ≤ F.toInt) (t0 : 0 ≤ T.toInt) (t1 : T.toInt ≤ l.length) (tu : T = U ∨ (T.toInt = 0 ∧ U.toInt < 0)) : LO L w (if lg_cmp (T - F) 100 < 0 then xx8_bytes_b72 (lNn L) (lNn L) T F σ else bx (xx6_fault (lNn L) σ (3000 + 114)) (fun z10 => some (Except.error (z10.1, z10.2)))) (if lg_cmp U F < 0 then mm_giveBytes_67 (lNn L) F U μ else (if lg_cmp (U - F) 100 < 0 then mm_giveBytes_67 (lNn L) F U μ else gd (zB 1) (lt (md_pi μ 227 1) (fun σ8 => bd (mm_fault_2 (lNn L) σ8 8) (fun z9 => some z9))))) := by
  have y100 : (100 : Int64).toInt = 100 := rfl
  have v1 := Int64.toInt_lt F
  have hN := EV_N E
  have big : 5000 < lNn L := by
    have := hN
    simp only [BIG] at this
    show 5000 < eN (lE L)
    omega
  obtain ⟨n, hn⟩ : ∃ j, lNn L = j + 1 := ⟨lNn L - 1, by omega⟩
  have d1 : (T - F).toInt = T.toInt - F.toInt := by rw [L_sub] <;> omega
  by_cases c : T.toInt < F.toInt
  · have u1 : U < F := by
      rw [L_lt]
      rcases tu with q | q
      · rw [← q]; exact c
      · omega
    have s1 : lg_cmp (T - F) 100 < 0 := lgc_lt.mpr (by rw [L_lt, d1, y100]; omega)
    have a1 : xx8_bytes_b72 (lNn L) (n + 1) T F σ = some (.ok σ) := by
      rw [xx8_bytes_b72, if_pos (lgc_gt.mpr (by rw [L_lt]; exact c))]
    have a2 : mm_giveBytes_70 (lNn L) (n + 1) U F μ = some μ := by
      rw [mm_giveBytes_70, if_pos (lgc_gt.mpr u1)]
    rw [if_pos s1, if_pos (lgc_lt.mpr u1), mm_giveBytes_67]
    rw [← hn] at a1 a2
    rw [a1, a2]
    exact LO_ok H
  · have e : T = U := by
      rcases tu with q | q
      · exact q
      · omega
    subst e
    have u1 : ¬ lg_cmp T F < 0 := fun q => by have := lgc_lt.mp q; rw [L_lt] at this; omega
    rw [if_neg u1]
    by_cases s : T.toInt - F.toInt < 100
    · have s1 : lg_cmp (T - F) 100 < 0 := lgc_lt.mpr (by rw [L_lt, d1, y100]; omega)
      rw [if_pos s1, if_pos s1, mm_giveBytes_67]
      have eT : T = Int32.toInt64 (Int32.ofNat T.toInt.toNat) := by rw [L_eq, L_64, tI_lit (by omega)]; omega
      have eF : F = Int32.toInt64 (Int32.ofNat (F.toInt.toNat - 1 + 1)) := by rw [L_eq, L_64, tI_lit (by omega)]; omega
      obtain ⟨τ, τm, g', r1, r2, r3⟩ := byte_lp (N := lNn L) len (T := T.toInt.toNat) (by omega) (T.toInt.toNat - (F.toInt.toNat - 1)) (F.toInt.toNat - 1) (lNn L) (lNn L) 0 σ μ (by omega) (by omega) (by omega) H (by
        have z0 : (0 : Int32).toInt = 0 := rfl
        omega) h1 h2
      rw [← eT, ← eF] at r1 r2
      rw [r1, r2]
      exact LO_ok r3
    · have s1 : ¬ lg_cmp (T - F) 100 < 0 := fun q => by have := lgc_lt.mp q; rw [L_lt, d1, y100] at this; omega
      rw [if_neg s1, if_neg s1, gd_z1, lt, bd_id]
      exact .inr (fault_L E H.1 (t := 114) (tm := 8) (by decide) (by decide) tx_114 (by decide +kernel))
theorem nOr {N : Nat} {Q : Nat → Bool} {L : LQ} {w : WD} {g i : Int32} {o : Int64} {σ0 μ0 μ : mS} (H : LC L w g σ0 μ0) (fr : m_fr Q μ0 μ) (q1 : Q 221 = false) (q2 : Q 222 = false) (q3 : Q 141 = false) (q4 : Q 142 = false) (i0 : 1 ≤ i) (i1 : i ≤ 150) : mm_numberOr N μ i o = some (if bT μ0 i = 2 then bV μ0 i else o, μ) := by
  have t := tag_Mq (N := N) H fr q1 q2 q3 q4 i0 i1
  rw [mm_numberOr, t.1, bd_so]
  dsimp only
  by_cases c : bT μ0 i = 2
  · rw [if_pos c, if_pos c, t.2, bd_so]; rfl
  · rw [if_neg c, if_neg c]; rfl
theorem place_p {N : Nat} {σ : mS} {P : Int64} {n : Nat} (hn : n ≤ 4000) (h : 0 ≤ P.toInt) : xx8_place N σ P (Int32.ofNat n) = some (P, σ) := by
  obtain ⟨Q, q1, q2, q3⟩ := place_x (N := N) (σ := σ) (v := P) hn
  have : Q = P := by
    rw [L_eq]
    rcases q3 with ⟨_, q⟩ | ⟨q, _⟩ <;> omega
  rw [q1, this]
