/-! LAYER 2: functions of the house: string.sub, what is given -/
theorem mn64_x {N : Nat} {σ : mS} {a b : Int64} : xj8_min_2 N σ a b = some (if b < a then b else a, σ) := by
  rw [xj8_min_2]
  by_cases d : b < a
  · rw [if_pos (lgc_gt.mpr d), if_pos d]; rfl
  · rw [if_neg (fun q => d (lgc_gt.mp q)), if_neg d]; rfl
theorem mx64_x {N : Nat} {σ : mS} {a b : Int64} : xj8_max_2 N σ a b = some (if a < b then b else a, σ) := by
  rw [xj8_max_2]
  by_cases d : a < b
  · rw [if_pos (lgc_lt.mpr d), if_pos d]; rfl
  · rw [if_neg (fun q => d (lgc_lt.mp q)), if_neg d]; rfl
/-- a part is given -/
theorem part_2 {L : LQ} (E : EVok (lE L)) {w : WD} {l : List Int32} (len : l.length ≤ 4000) {F T U : Int64} {σ μ : mS} (H : LC L w 0 σ μ) (h1 : hasL (σ.2.2.1 520) 0 l) (h2 : hasL (μ.2.2.1 223) 0 l) (f1 : 1 ≤ F.toInt) (t0 : 0 ≤ T.toInt) (t1 : T.toInt ≤ l.length) (tu : T = U ∨ (T.toInt = 0 ∧ U.toInt < 0)) : LO L w (xx8_sub_b84 (lNn L) (Int32.ofNat l.length) F (Int32.ofNat (T.toInt - F.toInt + 1).toNat) σ) (mm_sub_77 (lNn L) F U μ) := by
  have v1 := Int64.toInt_lt F
  have y1 : (1 : Int64).toInt = 1 := rfl
  have hN := EV_N E
  have big : 5000 < lNn L := by
    have := hN
    simp only [BIG] at this
    show 5000 < eN (lE L)
    omega
  obtain ⟨n, hn⟩ : ∃ j, lNn L = j + 1 := ⟨lNn L - 1, by omega⟩
  have en : (Int32.toInt64 (Int32.ofNat l.length)).toInt = l.length := by rw [L_64, tI_lit (by omega)]
  have d1 : (F - 1).toInt = F.toInt - 1 := by rw [L_sub, y1] <;> omega
  have H0 : LC L w 0 σ (md_pi μ 17 0) := LC_u H mf_rfl (mf_pi mf_rfl rfl)
  have go : ∀ (p : Nat) (l' : List Int32) (τ : mS), l'.length = (T.toInt - F.toInt + 1).toNat → p + l'.length ≤ 4200 → Int64.toInt32 (if Int32.toInt64 (Int32.ofNat l.length) < F - 1 then Int32.toInt64 (Int32.ofNat l.length) else F - 1) = Int32.ofNat p → hasL (σ.2.2.1 520) p l' → bufL τ l' → m_fr bK (md_pi μ 17 0) τ → mm_sub_77 (lNn L) F U μ = bd (mm_giveMade (lNn L) τ) (fun z1 => some z1) → LO L w (xx8_sub_b84 (lNn L) (Int32.ofNat l.length) F (Int32.ofNat (T.toInt - F.toInt + 1).toNat) σ) (mm_sub_77 (lNn L) F U μ) := fun p l' τ e1 e2 e3 e4 e5 e6 e7 => by
    rw [e7, xx8_sub_b84, mn64_x, bd_so]
    dsimp only
    rw [e3, ← e1]
    exact LO_end (bytes_L E (LC_u H0 mf_rfl (bK_u e6)) (by decide) vB_520 (by decide) (fun _ => ⟨e2, e4⟩) e5 (by omega)) (fun z => rfl) (fun z => rfl)
  by_cases c : T.toInt < F.toInt
  · have u1 : U < F := by
      rw [L_lt]
      rcases tu with q | q
      · rw [← q]; exact c
      · omega
    have a2 : mm_sub_77 (lNn L) F U μ = bd (mm_giveMade (lNn L) (md_pi μ 17 0)) (fun z1 => some z1) := by
      have : mm_sub_85 (lNn L) (n + 1) U F (md_pi μ 17 0) = bd (mm_giveMade (lNn L) (md_pi μ 17 0)) (fun z1 => some z1) := by
        rw [mm_sub_85, if_pos (lgc_gt.mpr u1)]
      rw [← hn] at this
      rw [mm_sub_77, lt, this]
    by_cases d : Int32.toInt64 (Int32.ofNat l.length) < F - 1
    · exact go l.length [] (md_pi μ 17 0) (by rw [List.length_nil]; omega) (by rw [List.length_nil]; omega) (by rw [if_pos d, h_ll]) hasL_nil bufL_0 mf_rfl a2
    · have d' : F.toInt - 1 ≤ l.length := by rw [L_lt, en, d1] at d; omega
      have eF : F - 1 = Int32.toInt64 (Int32.ofNat (F.toInt.toNat - 1)) := by rw [L_eq, L_64, tI_lit (by omega), d1]; omega
      exact go (F.toInt.toNat - 1) [] (md_pi μ 17 0) (by rw [List.length_nil]; omega) (by rw [List.length_nil]; omega) (by rw [if_neg d, eF, h_ll]) hasL_nil bufL_0 mf_rfl a2
  · have e : T = U := by
      rcases tu with q | q
      · exact q
      · omega
    subst e
    have eT : T = Int32.toInt64 (Int32.ofNat T.toInt.toNat) := by rw [L_eq, L_64, tI_lit (by omega)]; omega
    have eF : F = Int32.toInt64 (Int32.ofNat (F.toInt.toNat - 1 + 1)) := by rw [L_eq, L_64, tI_lit (by omega)]; omega
    have eF1 : F - 1 = Int32.toInt64 (Int32.ofNat (F.toInt.toNat - 1)) := by rw [L_eq, L_64, tI_lit (by omega), d1]; omega
    have d : ¬ Int32.toInt64 (Int32.ofNat l.length) < F - 1 := fun q => by rw [L_lt, en, d1] at q; omega
    obtain ⟨τ, r1, r2, r3⟩ := sub_lp (N := lNn L) len (T := T.toInt.toNat) (by omega) (T.toInt.toNat - (F.toInt.toNat - 1)) (F.toInt.toNat - 1) (lNn L) (md_pi μ 17 0) [] (by omega) (by omega) bufL_0 (by rw [List.length_nil]; omega) h2
    rw [← eT, ← eF] at r1
    rw [List.nil_append] at r2
    have le : ((l.drop (F.toInt.toNat - 1)).take (T.toInt.toNat - (F.toInt.toNat - 1))).length = T.toInt.toNat - (F.toInt.toNat - 1) := by
      rw [List.length_take, List.length_drop]; omega
    exact go (F.toInt.toNat - 1) _ τ (by rw [le]; omega) (by rw [le]; omega) (by rw [if_neg d, eF1, h_ll]) (hasL_mid h1 _ _) r2 r3 (by rw [mm_sub_77, lt, r1])
