/-! LAYER 2: messages with a type's name on both sides -/
theorem faultT_2 {N : Nat} (hN : BIG ≤ N) {S : SR} {K : Int32 → Int32 → Int32 → Prop} {q : Int} {w : WD} {xf : Int32 → List Int32} {c d : Int32} {rest : PL2} {σ μ : mS} (H : ME S K q w xf c d rest σ μ) (hl : LK σ (mff μ) (sI μ 162 d) (xf c) (sF μ 154)) {tx tm : Int32} {vx vm : Int64} (v : VV w tx vx tm vm) (h8 : tx ≠ 8) {t u t' u' : Nat} (ht : t < 141) (hu : u < 76) (he : xtx t = mtx u) (hn : (mtx u).length ≤ 100) (ht' : t' < 141) (hu' : u' < 76) (he' : xtx t' = mtx u') (hn' : (mtx u').length ≤ 100) (dd : Nat) :
    (∃ τ τm, xx6_fault_2 N σ (3000 + t) tx (3000 + t') = some (.error (1101, τ)) ∧ bd (mm_beginMessage N μ) (fun z1 => bd (mm_putText N z1 u) (fun z2 => bd (mm_putType N z2 tm) (fun z3 => bd (mm_putText N z3 u') (fun z4 => mb_raiseMessage N (rc_finish N dd) z4)))) = mm_breakOff N τm 3 ∧ ME S K q w xf c d rest τ τm ∧ m_fr gX σ τ ∧ m_fr gM μ τm)
    ∨ (∃ τ τm w' v', xx6_fault_2 N σ (3000 + t) tx (3000 + t') = some (.ok (1107, τ)) ∧ bd (mm_beginMessage N μ) (fun z1 => bd (mm_putText N z1 u) (fun z2 => bd (mm_putType N z2 tm) (fun z3 => bd (mm_putText N z3 u') (fun z4 => mb_raiseMessage N (rc_finish N dd) z4)))) = (rc_finish N dd).2.2.1 τm 3 v' ∧ TH w' τ 3 v' ∧ sF τ 405 = lnH σ (xf c) ∧ ME S K q w' xf c d rest τ τm ∧ wle w w' ∧ wC w' = wC w ∧ m_fr gX σ τ ∧ m_fr gM μ τm) := by
  have cl := (ME_calls H).2.1
  have la := lah_2 hN H hl (by lia)
  obtain ⟨l, hlP⟩ := lnP_ex (lnH σ (xf c))
  have ll := lnP_len hlP
  have f0 : m_fr bK μ (md_pi μ 17 0) := mf_pi mf_rfl rfl
  have H0 := ME_sc H (mf_rfl (σ := σ)) f0
  obtain ⟨k1, k2⟩ := LKg (w := w) hl (mf_rfl (σ := σ)) (bK_g f0)
  have la0 := lah_2 hN H0 (by rw [g162 (bK_g f0), g154 (bK_g f0)]; exact k1) (by rw [g154 (bK_g f0)]; lia)
  obtain ⟨sv, sl⟩ := HO_sv H.1.1.2.1 H.2.2.1 (k := tyI tm) tyI_lt
  have tl : (mtx (tyI tm + 1)).length ≤ 100 := by
    have : ∀ i, i < 7 → (mtx (i + 1)).length ≤ 100 := by decide +kernel
    exact this _ tyI_lt
  obtain ⟨μ1, b1, b2, b3⟩ := beginMessage_m hN hlP (lnH_nn hl) la0.2
  obtain ⟨μ2, c1, c2, c3⟩ := putText_m hN hu b2 (by omega)
  obtain ⟨μ3, d1, d2, d3⟩ := putType_m hN (tm := tm) c2 (by rw [List.length_append]; omega)
  obtain ⟨μ4, e1, e2, e3⟩ := putText_m hN hu' d2 (by rw [List.length_append, List.length_append]; omega)
  obtain ⟨σ1, x1, x2, x3⟩ := linePrefix_x hN (σ := σ) hlP
  have xl : (xtx t).length ≤ 100 := by rw [he]; exact hn
  have xl' : (xtx t').length ≤ 100 := by rw [he']; exact hn'
  obtain ⟨σ2, y1, y2, y3⟩ := ascii_L hN (p := l.length) (σ := σ1) ht vB_407 (by omega)
  have fx2 : m_fr sX σ σ2 := mf_tr (xw_sX x3 (.inl rfl)) (xw_sX y3 (.inl rfl))
  have e393 : σ2.2.2.1 393 (tyI tm) = σ.2.2.1 393 (tyI tm) := by rw [fx2.2.2.1 393 (sX_f (.inl (by decide)))]
  have sm2 : ∀ g, x_sm σ σ2 g := fun g => ⟨mf_I fx2 (sX_f (.inl (by decide))), mf_I fx2 (sX_f (.inl (by decide))), mf_I fx2 (sX_f (.inl (by decide))), fun k _ _ => by
    simp only [x_by]
    rw [mf_I fx2 (sX_f (.inl (by decide))), mf_I fx2 (sX_f (.inl (by decide))), mf_I fx2 (sX_f (.inl (by decide)))]⟩
  have H2x := ME_sc H fx2 (mf_rfl (σ := μ))
  obtain ⟨sv2, sl2⟩ := HO_sv H2x.1.1.2.1 H2x.2.2.1 (k := tyI tm) tyI_lt
  have hp3 : l.length + (xtx t).length + (xL σ2 (σ2.2.2.1 393 (tyI tm))).length ≤ 8300 := by rw [sl2]; omega
  obtain ⟨σ3, z1, z2, z3⟩ := copy_L (N := N) (σ := σ2) (p := l.length + (xtx t).length) sv2 vB_407 (by decide) hp3
  rw [sl2] at z1 z2 z3
  obtain ⟨σ4, w1, w2, w3⟩ := ascii_L hN (p := l.length + (xtx t).length + (mtx (tyI tm + 1)).length) (σ := σ3) ht' vB_407 (by omega)
  have fx : m_fr sX σ σ4 := mf_tr fx2 (mf_tr (xw_sX z3 (.inl rfl)) (xw_sX w3 (.inl rfl)))
  have fm : m_fr bK μ μ4 := mf_tr b3 (mf_tr c3 (mf_tr d3 e3))
  have H2 := ME_sc H fx fm
  obtain ⟨j1, j2⟩ := LKg (w := w) hl (sX_g fx) (bK_g fm)
  have hL : hasL (σ4.2.2.1 407) 0 (l ++ mtx u ++ mtx (tyI tm + 1) ++ mtx u') := by
    have p1 : hasL (σ2.2.2.1 407) 0 (l ++ mtx u) := hasL_app.mpr ⟨hasL_xw x2 y3 (by omega), by rw [Nat.zero_add, ← he]; exact y2⟩
    have p2 : hasL (σ3.2.2.1 407) 0 (l ++ mtx u ++ mtx (tyI tm + 1)) := hasL_app.mpr ⟨hasL_xw p1 z3 (by rw [List.length_append, ← he]; omega), by rw [Nat.zero_add, List.length_append, ← he]; exact z2⟩
    exact hasL_app.mpr ⟨hasL_xw p2 w3 (by rw [List.length_append, List.length_append, ← he]; omega), by rw [Nat.zero_add, List.length_append, List.length_append, ← he, ← he']; exact w2⟩
  have ex : xx6_fault_2 N σ (3000 + t) tx (3000 + t') = bx (xx2_make N σ4 407 0 (Int32.ofNat (l ++ mtx u ++ mtx (tyI tm + 1) ++ mtx u').length)) (fun z4 => bd (xx6_raise N z4.2 4 (Int32.toInt64 z4.1)) (fun z5 => some (Except.ok (z5.1, z5.2)))) := by
    rw [xx6_fault_2, la.1]
    simp only [bd]
    rw [x1]
    simp only [bd]
    rw [y1]
    simp only [bd]
    rw [typeName_x v h8]
    simp only [bd]
    rw [z1]
    simp only [bd]
    rw [w1]
    simp only [bd]
    rw [List.length_append, List.length_append, List.length_append, ← he, ← he']
  have em : bd (mm_beginMessage N μ) (fun z1 => bd (mm_putText N z1 u) (fun z2 => bd (mm_putType N z2 tm) (fun z3 => bd (mm_putText N z3 u') (fun z4 => mb_raiseMessage N (rc_finish N dd) z4)))) = mb_raiseMessage N (rc_finish N dd) μ4 := by
    rw [b1]
    simp only [bd]
    rw [c1]
    simp only [bd]
    rw [d1]
    simp only [bd]
    rw [e1]
  rw [ex, em]
  rcases msg_2 hN H2 (by rw [g162 (bK_g fm), g154 (bK_g fm)]; exact j1) (.inl rfl) hL e2 (by rw [List.length_append, List.length_append, List.length_append]; omega) dd with ⟨r1, r2⟩ | ⟨τ, τm, w', v', r1, r2, r3, r4, r5, r6, r7, r8, r9⟩
  · left
    exact ⟨σ4, μ4, r1, r2, H2, sX_g fx, bK_g fm⟩
  · right
    exact ⟨τ, τm, w', v', r1, r2, r3, by rw [r4, j2], r5, r6, r7, mf_tr (sX_g fx) r8, mf_tr (bK_g fm) r9⟩
