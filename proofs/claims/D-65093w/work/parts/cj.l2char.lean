/-! LAYER 2: functions of the house: string.char: the bytes are put together -/
def chB (μ : mS) : Nat → Nat → List Int32
  | _, 0 => []
  | i, m + 1 => ((bV μ (Int32.ofNat i)).toInt32 &&& 255) :: chB μ (i + 1) m
theorem chB_len {μ : mS} : ∀ (m i : Nat), (chB μ i m).length = m
  | 0, _ => rfl
  | m + 1, i => by rw [chB, List.length_cons, chB_len m (i + 1)]
theorem ch79_m {N : Nat} {L : LQ} {w : WD} {g : Int32} {σ0 μ0 : mS} (H : LC L w g σ0 μ0) {nL : Nat} (hn : ln L = Int32.ofNat nL) (n1 : nL ≤ 100) : ∀ (m i n : Nat) (μ : mS) (acc : List Int32), 1 ≤ i → i + m = nL + 1 → m < n → m_fr bK μ0 μ → bufL μ acc → acc.length + m ≤ 4000 → ∃ τ, mm_chars_79 N n (Int32.ofNat i) μ = bd (mm_giveMade N τ) (fun z1 => mm_chars_107 N z1) ∧ bufL τ (acc ++ chB μ0 i m) ∧ m_fr bK μ0 τ := by
  intro m
  induction m with
  | zero =>
    intro i n μ acc i1 hi hm fr hb ha
    obtain ⟨n, rfl⟩ : ∃ j, n = j + 1 := ⟨n - 1, by omega⟩
    have h222 : sF μ 222 = Int32.ofNat nL := by rw [← hn]; exact (mf_F fr rfl).trans H.2.2.1.2.2.2.1
    refine ⟨μ, ?_, ?_, fr⟩
    · rw [mm_chars_79, sF_fold, h222, if_pos ((nl_i n1 (by omega)).mpr (by omega))]
    · rw [chB, List.append_nil]; exact hb
  | succ m ih =>
    intro i n μ acc i1 hi hm fr hb ha
    obtain ⟨n, rfl⟩ : ∃ j, n = j + 1 := ⟨n - 1, by omega⟩
    have h222 : sF μ 222 = Int32.ofNat nL := by rw [← hn]; exact (mf_F fr rfl).trans H.2.2.1.2.2.2.1
    have ni : ¬ Int32.ofNat nL < Int32.ofNat i := fun q => by have := (nl_i n1 (by omega)).mp q; omega
    have j0 : (1 : Int32) ≤ Int32.ofNat i := by rw [show (1 : Int32) = Int32.ofNat 1 from rfl, oN_le (by omega) (by omega)]; exact i1
    have j1 : Int32.ofNat i ≤ 150 := by rw [show (150 : Int32) = Int32.ofNat 150 from rfl, oN_le (by omega) (by omega)]; omega
    have tm := tag_Mq (N := N) H fr rfl rfl rfl rfl j0 j1
    obtain ⟨y, s1, s2, s3⟩ := put_m (N := N) (b := (bV μ0 (Int32.ofNat i)).toInt32) hb (by omega)
    obtain ⟨τ, r1, r2, r3⟩ := ih (i + 1) n y _ (by omega) (by omega) (by omega) (mf_tr fr s3) s2 (by rw [List.length_append, List.length_singleton]; omega)
    refine ⟨τ, ?_, ?_, r3⟩
    · rw [mm_chars_79, sF_fold, h222, if_neg ni, tm.2, bd_so]
      dsimp only
      rw [s1, bd_so, lt, oN_s]
      exact r1
    · rw [chB]
      rw [List.append_assoc] at r2
      exact r2
