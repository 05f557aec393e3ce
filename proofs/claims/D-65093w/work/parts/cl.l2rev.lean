/-! LAYER 2: functions of the house: string.reverse: the loops -/
theorem on_2 {n i : Nat} (h : i < n) : Int32.ofNat n - 1 - Int32.ofNat i = Int32.ofNat (n - 1 - i) := by
  obtain ⟨k, rfl⟩ : ∃ k, n = k + 1 := ⟨n - 1, by omega⟩
  rw [on_1, show k + 1 - 1 - i = k - i from by omega]
  have : Int32.ofNat (k - i) + Int32.ofNat i = Int32.ofNat k := by rw [oN_add]; congr 1; omega
  rw [← this]; lia
theorem rev_t {l : List Int32} {i : Nat} (h : i < l.length) : l.reverse.take (i + 1) = l.reverse.take i ++ [l.getD (l.length - 1 - i) 0] := by
  rw [take_1 (by rw [List.length_reverse]; exact h)]
  congr 2
  rw [List.getD_eq_getElem?_getD, List.getD_eq_getElem?_getD, List.getElem?_reverse h]
theorem rev_x {N : Nat} {l : List Int32} (len : l.length ≤ 4000) : ∀ (c i n : Nat) (σ : mS), i + c = l.length → c < n → hasL (σ.2.2.1 520) 0 l → hasL (σ.2.2.1 521) 0 (l.reverse.take i) → ∃ τ, xx8_texts_b109 N n (Int32.ofNat l.length) (Int32.ofNat i) σ = bx (xx8_giveBytes N τ 521 0 (Int32.ofNat l.length)) (fun z1 => xx8_texts_b186 N z1) ∧ hasL (τ.2.2.1 521) 0 l.reverse ∧ m_fr (fun k => k == 521) σ τ := by
  intro c
  induction c with
  | zero =>
    intro i n σ hi hn h1 h2
    obtain ⟨n, rfl⟩ : ∃ j, n = j + 1 := ⟨n - 1, by omega⟩
    have e : i = l.length := by omega
    subst e
    refine ⟨σ, ?_, ?_, mf_rfl⟩
    · rw [xx8_texts_b109, if_pos (Int32.le_refl _)]
    · rw [← List.length_reverse, List.take_length] at h2; exact h2
  | succ c ih =>
    intro i n σ hi hn h1 h2
    obtain ⟨n, rfl⟩ : ∃ j, n = j + 1 := ⟨n - 1, by omega⟩
    have lk : (l.reverse.take i).length = i := by rw [List.length_take, List.length_reverse]; omega
    have e1 : σ.2.2.1 520 (l.length - 1 - i) &&& 255 = l.getD (l.length - 1 - i) 0 := by have := h1 (l.length - 1 - i) (by omega); rw [Nat.zero_add] at this; exact this
    obtain ⟨w1, w2, w3⟩ := wr_1 (b := σ.2.2.1 520 (l.length - 1 - i)) vB_521 h2 (by rw [lk]; omega)
    rw [lk, Nat.zero_add] at w1 w2 w3
    rw [e1, ← rev_t (by omega)] at w2
    obtain ⟨τ, r1, r2, r3⟩ := ih (i + 1) n _ (by omega) (by omega) (by rw [w3.1.2.2.1 520 rfl]; exact h1) w2
    refine ⟨τ, ?_, r2, mf_tr w3.1 r3⟩
    rw [xx8_texts_b109, if_neg (fun q => by rw [oN_le (by omega) (by omega)] at q; omega), on_2 (by omega), gd_oN (by omega) (by decide), gd_oN (by omega) (by decide), oN_cl (by omega), oN_cl (by omega), lt, lt, oN_s]
    exact r1
