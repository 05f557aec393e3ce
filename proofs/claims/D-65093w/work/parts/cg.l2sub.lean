/-! LAYER 2: functions of the house: string.sub -/
theorem hasL_mid {f : Nat → Int32} {l : List Int32} (h : hasL f 0 l) (p k : Nat) : hasL f p ((l.drop p).take k) := fun j hj => by
  rw [List.length_take, List.length_drop] at hj
  have := h (p + j) (by omega)
  rw [Nat.zero_add] at this
  rw [this, List.getD_eq_getElem?_getD, List.getD_eq_getElem?_getD, List.getElem?_take, if_pos (by omega), List.getElem?_drop]
/-- bytes are put together -/
theorem sub_lp {N : Nat} {l : List Int32} (len : l.length ≤ 4000) {T : Nat} (hT : T ≤ l.length) : ∀ (c m n : Nat) (μ : mS) (acc : List Int32), m + c = T → c < n → bufL μ acc → acc.length + c ≤ 4400 → hasL (μ.2.2.1 223) 0 l → ∃ τ, mm_sub_85 N n (Int32.toInt64 (Int32.ofNat T)) (Int32.toInt64 (Int32.ofNat (m + 1))) μ = bd (mm_giveMade N τ) (fun z1 => some z1) ∧ bufL τ (acc ++ (l.drop m).take c) ∧ m_fr bK μ τ := by
  intro c
  induction c with
  | zero =>
    intro m n μ acc hc hn hb ha h2
    obtain ⟨n, rfl⟩ : ∃ j, n = j + 1 := ⟨n - 1, by omega⟩
    have lt1 : 0 < lg_cmp (Int32.toInt64 (Int32.ofNat (m + 1))) (Int32.toInt64 (Int32.ofNat T)) := lgc_gt.mpr (by rw [L_lt, L_64, L_64, tI_lit (by omega), tI_lit (by omega)]; omega)
    refine ⟨μ, ?_, ?_, mf_rfl⟩
    · rw [mm_sub_85, if_pos lt1]
    · rw [List.take_zero, List.append_nil]; exact hb
  | succ c ih =>
    intro m n μ acc hc hn hb ha h2
    obtain ⟨n, rfl⟩ : ∃ j, n = j + 1 := ⟨n - 1, by omega⟩
    have lt1 : ¬ 0 < lg_cmp (Int32.toInt64 (Int32.ofNat (m + 1))) (Int32.toInt64 (Int32.ofNat T)) := fun q => by
      have := lgc_gt.mp q
      rw [L_lt, L_64, L_64, tI_lit (by omega), tI_lit (by omega)] at this; omega
    have e2 : μ.2.2.1 223 m &&& 255 = l.getD m 0 := by have := h2 m (by omega); rw [Nat.zero_add] at this; exact this
    obtain ⟨y, s1, s2, s3⟩ := put_m (N := N) (b := μ.2.2.1 223 m) hb (by omega)
    rw [e2] at s2
    obtain ⟨τ, r1, r2, r3⟩ := ih (m + 1) n y _ (by omega) (by omega) s2 (by rw [List.length_append, List.length_singleton]; omega) (by rw [s3.2.2.1 223 rfl]; exact h2)
    refine ⟨τ, ?_, ?_, mf_tr s3 r3⟩
    · rw [mm_sub_85, if_neg lt1, h_ll, on_1, gd_oN (by omega) (by decide), oN_cl (by omega), s1, bd_so, lt, oL_s (by omega)]
      exact r1
    · rw [dr_1 (by omega), List.take_succ_cons]
      rw [List.append_assoc] at r2
      exact r2
