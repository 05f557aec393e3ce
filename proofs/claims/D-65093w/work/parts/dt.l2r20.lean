/-! LAYER 2: messages with two types; texts in order -/
theorem faultTT_2 {N : Nat} (hN : BIG ≤ N) {S : SR} {K : Int32 → Int32 → Int32 → Prop} {q : Int} {w : WD} {xf : Int32 → List Int32} {c d : Int32} {rest : PL2} {σ μ : mS} (H : ME S K q w xf c d rest σ μ) (hl : LK σ (mff μ) (sI μ 162 d) (xf c) (sF μ 154)) {tx tm ux um : Int32} {vx vm yx ym : Int64} (v : VV w tx vx tm vm) (h8 : tx ≠ 8) (vu : VV w ux yx um ym) (h8' : ux ≠ 8) (dd : Nat) :
    (∃ τ τm, xx6_faultOfTwo N σ tx ux = some (.error (1101, τ)) ∧ bd (mm_beginMessage N μ) (fun z1 => bd (mm_putText N z1 22) (fun z2 => bd (mm_putType N z2 tm) (fun z3 => bd (mm_putText N z3 23) (fun z4 => bd (mm_putType N z4 um) (fun z5 => mb_raiseMessage N (rc_finish N dd) z5))))) = mm_breakOff N τm 3 ∧ ME S K q w xf c d rest τ τm ∧ m_fr gX σ τ ∧ m_fr gM μ τm)
    ∨ (∃ τ τm w' v', xx6_faultOfTwo N σ tx ux = some (.ok (1107, τ)) ∧ bd (mm_beginMessage N μ) (fun z1 => bd (mm_putText N z1 22) (fun z2 => bd (mm_putType N z2 tm) (fun z3 => bd (mm_putText N z3 23) (fun z4 => bd (mm_putType N z4 um) (fun z5 => mb_raiseMessage N (rc_finish N dd) z5))))) = (rc_finish N dd).2.2.1 τm 3 v' ∧ TH w' τ 3 v' ∧ sF τ 405 = lnH σ (xf c) ∧ ME S K q w' xf c d rest τ τm ∧ wle w w' ∧ wC w' = wC w ∧ m_fr gX σ τ ∧ m_fr gM μ τm) := by
  have cl := (ME_calls H).2.1
  have la := lah_2 hN H hl (by lia)
  obtain ⟨l, hlP⟩ := lnP_ex (lnH σ (xf c))
  have ll := lnP_len hlP
  have f0 : m_fr bK μ (md_pi μ 17 0) := mf_pi mf_rfl rfl
  have H0 := ME_sc H (mf_rfl (σ := σ)) f0
  obtain ⟨k1, k2⟩ := LKg (w := w) hl (mf_rfl (σ := σ)) (bK_g f0)
  have la0 := lah_2 hN H0 (by rw [g162 (bK_g f0), g154 (bK_g f0)]; exact k1) (by rw [g154 (bK_g f0)]; lia)
  have he : xtx 0 = mtx 22 := by decide +kernel
  have he' : xtx 1 = mtx 23 := by decide +kernel
  have hn : (mtx 22).length ≤ 100 := by decide +kernel
  have hn' : (mtx 23).length ≤ 100 := by decide +kernel
  have tl : (mtx (tyI tm + 1)).length ≤ 100 := by
    have : ∀ i, i < 7 → (mtx (i + 1)).length ≤ 100 := by decide +kernel
    exact this _ tyI_lt
  have tl2 : (mtx (tyI um + 1)).length ≤ 100 := by
    have : ∀ i, i < 7 → (mtx (i + 1)).length ≤ 100 := by decide +kernel
    exact this _ tyI_lt
  obtain ⟨μ1, b1, b2, b3⟩ := beginMessage_m hN hlP (lnH_nn hl) la0.2
  obtain ⟨μ2, c1, c2, c3⟩ := putText_m (t := 22) hN (by decide) b2 (by omega)
  obtain ⟨μ3, d1, d2, d3⟩ := putType_m hN (tm := tm) c2 (by rw [List.length_append]; omega)
  obtain ⟨μ4, e1, e2, e3⟩ := putText_m (t := 23) hN (by decide) d2 (by rw [List.length_append, List.length_append]; omega)
  obtain ⟨μ5, p1, p2, p3⟩ := putType_m hN (tm := um) e2 (by rw [List.length_append, List.length_append, List.length_append]; omega)
  obtain ⟨σ1, x1, x2, x3⟩ := linePrefix_x hN (σ := σ) hlP
  have xl : (xtx 0).length ≤ 100 := by rw [he]; exact hn
  have xl' : (xtx 1).length ≤ 100 := by rw [he']; exact hn'
  obtain ⟨σ2, y1, y2, y3⟩ := ascii_L (t := 0) hN (p := l.length) (σ := σ1) (by decide) vB_407 (by omega)
  have fx2 : m_fr sX σ σ2 := mf_tr (xw_sX x3 (.inl rfl)) (xw_sX y3 (.inl rfl))
  have H2x := ME_sc H fx2 (mf_rfl (σ := μ))
  obtain ⟨sv2, sl2⟩ := HO_sv H2x.1.1.2.1 H2x.2.2.1 (k := tyI tm) tyI_lt
  have hp3 : l.length + (xtx 0).length + (xL σ2 (σ2.2.2.1 393 (tyI tm))).length ≤ 8300 := by rw [sl2]; omega
  obtain ⟨σ3, z1, z2, z3⟩ := copy_L (N := N) (σ := σ2) (p := l.length + (xtx 0).length) sv2 vB_407 (by decide) hp3
  rw [sl2] at z1 z2 z3
  obtain ⟨σ4, w1, w2, w3⟩ := ascii_L (t := 1) hN (p := l.length + (xtx 0).length + (mtx (tyI tm + 1)).length) (σ := σ3) (by decide) vB_407 (by omega)
  have fx4 : m_fr sX σ σ4 := mf_tr fx2 (mf_tr (xw_sX z3 (.inl rfl)) (xw_sX w3 (.inl rfl)))
  have H4x := ME_sc H fx4 (mf_rfl (σ := μ))
  obtain ⟨sv4, sl4⟩ := HO_sv H4x.1.1.2.1 H4x.2.2.1 (k := tyI um) tyI_lt
  have hp5 : l.length + (xtx 0).length + (mtx (tyI tm + 1)).length + (xtx 1).length + (xL σ4 (σ4.2.2.1 393 (tyI um))).length ≤ 8300 := by rw [sl4]; omega
  obtain ⟨σ5, q1, q2, q3⟩ := copy_L (N := N) (σ := σ4) (p := l.length + (xtx 0).length + (mtx (tyI tm + 1)).length + (xtx 1).length) sv4 vB_407 (by decide) hp5
  rw [sl4] at q1 q2 q3
  have fx : m_fr sX σ σ5 := mf_tr fx4 (xw_sX q3 (.inl rfl))
  have fm : m_fr bK μ μ5 := mf_tr b3 (mf_tr c3 (mf_tr d3 (mf_tr e3 p3)))
  have H2 := ME_sc H fx fm
  obtain ⟨j1, j2⟩ := LKg (w := w) hl (sX_g fx) (bK_g fm)
  have hL : hasL (σ5.2.2.1 407) 0 (l ++ mtx 22 ++ mtx (tyI tm + 1) ++ mtx 23 ++ mtx (tyI um + 1)) := by
    have h1 : hasL (σ2.2.2.1 407) 0 (l ++ mtx 22) := hasL_app.mpr ⟨hasL_xw x2 y3 (by omega), by rw [Nat.zero_add, ← he]; exact y2⟩
    have h2 : hasL (σ3.2.2.1 407) 0 (l ++ mtx 22 ++ mtx (tyI tm + 1)) := hasL_app.mpr ⟨hasL_xw h1 z3 (by rw [List.length_append, ← he]; omega), by rw [Nat.zero_add, List.length_append, ← he]; exact z2⟩
    have h3 : hasL (σ4.2.2.1 407) 0 (l ++ mtx 22 ++ mtx (tyI tm + 1) ++ mtx 23) := hasL_app.mpr ⟨hasL_xw h2 w3 (by rw [List.length_append, List.length_append, ← he]; omega), by rw [Nat.zero_add, List.length_append, List.length_append, ← he, ← he']; exact w2⟩
    exact hasL_app.mpr ⟨hasL_xw h3 q3 (by rw [List.length_append, List.length_append, List.length_append, ← he, ← he']; omega), by rw [Nat.zero_add, List.length_append, List.length_append, List.length_append, ← he, ← he']; exact q2⟩
  have ex : xx6_faultOfTwo N σ tx ux = bx (xx2_make N σ5 407 0 (Int32.ofNat (l ++ mtx 22 ++ mtx (tyI tm + 1) ++ mtx 23 ++ mtx (tyI um + 1)).length)) (fun z4 => bd (xx6_raise N z4.2 4 (Int32.toInt64 z4.1)) (fun z5 => some (Except.ok (z5.1, z5.2)))) := by
    rw [xx6_faultOfTwo, la.1]
    simp only [bd]
    rw [x1]
    simp only [bd]
    rw [show (3000 + 0 : Nat) = 3000 + 0 from rfl, y1]
    simp only [bd]
    rw [typeName_x v h8]
    simp only [bd]
    rw [z1]
    simp only [bd]
    rw [w1]
    simp only [bd]
    rw [typeName_x vu h8']
    simp only [bd]
    rw [q1]
    simp only [bd]
    rw [List.length_append, List.length_append, List.length_append, List.length_append, ← he, ← he']
  have em : bd (mm_beginMessage N μ) (fun z1 => bd (mm_putText N z1 22) (fun z2 => bd (mm_putType N z2 tm) (fun z3 => bd (mm_putText N z3 23) (fun z4 => bd (mm_putType N z4 um) (fun z5 => mb_raiseMessage N (rc_finish N dd) z5))))) = mb_raiseMessage N (rc_finish N dd) μ5 := by
    rw [b1]
    simp only [bd]
    rw [c1]
    simp only [bd]
    rw [d1]
    simp only [bd]
    rw [e1]
    simp only [bd]
    rw [p1]
  rw [ex, em]
  rcases msg_2 hN H2 (by rw [g162 (bK_g fm), g154 (bK_g fm)]; exact j1) (.inl rfl) hL p2 (by rw [List.length_append, List.length_append, List.length_append, List.length_append]; omega) dd with ⟨r1, r2⟩ | ⟨τ, τm, w', v', r1, r2, r3, r4, r5, r6, r7, r8, r9⟩
  · left
    exact ⟨σ5, μ5, r1, r2, H2, sX_g fx, bK_g fm⟩
  · right
    exact ⟨τ, τm, w', v', r1, r2, r3, by rw [r4, j2], r5, r6, r7, mf_tr (sX_g fx) r8, mf_tr (bK_g fm) r9⟩
theorem faultTT_UO {e : EV} (E : EVok e) {w : WD} {xf : Int32 → List Int32} {c d : Int32} {rest : PL2} {σ μ : mS} (H : UK e w xf c d rest σ μ) {tx tm ux um : Int32} {vx vm yx ym : Int64} (v : VV w tx vx tm vm) (vu : VV w ux yx um ym) {α : Type} {k : mS → Option mS} (hk : ∀ z, k z = some z) : UO (α := α) e w xf c d rest σ μ (fun z => z) (bx (xx6_faultOfTwo (eN e) σ tx ux) (fun z => some (Except.error (z.1, z.2)))) (bd (mm_beginMessage (eN e) μ) (fun z2 => bd (mm_putText (eN e) z2 22) (fun z3 => bd (mm_putType (eN e) z3 tm) (fun z4 => bd (mm_putText (eN e) z4 23) (fun z5 => bd (mm_putType (eN e) z5 um) (fun z6 => bd (mm_raiseMessage (eN e) z6) k)))))) := by
  have hp : ∀ k, kX k → gX k = false := fun k hk => gX_f (.inl hk)
  have hq : ∀ k, kM k → gM k = false := fun k hk => gM_k (.inl hk)
  have q : bd (mm_beginMessage (eN e) μ) (fun z2 => bd (mm_putText (eN e) z2 22) (fun z3 => bd (mm_putType (eN e) z3 tm) (fun z4 => bd (mm_putText (eN e) z4 23) (fun z5 => bd (mm_putType (eN e) z5 um) (fun z6 => bd (mm_raiseMessage (eN e) z6) k))))) = bd (mm_beginMessage (eN e) μ) (fun z1 => bd (mm_putText (eN e) z1 22) (fun z2 => bd (mm_putType (eN e) z2 tm) (fun z3 => bd (mm_putText (eN e) z3 23) (fun z4 => bd (mm_putType (eN e) z4 um) (fun z5 => mb_raiseMessage (eN e) (rc_finish (eN e) 449) z5))))) := by
    have r : ∀ z, bd (mm_raiseMessage (eN e) z) k = mb_raiseMessage (eN e) (rc_finish (eN e) 449) z := fun z => bd_me hk
    simp only [r]
  rw [q]
  rcases faultTT_2 (EV_N E) H.1 H.2.2.2 v (VV_8 v) vu (VV_8 vu) 449 with ⟨τ, τm, a1, a2, a3, a4, a5⟩ | ⟨τ, τm, w', v', a1, a2, a3, a4, a5, a6, a7, a8, a9⟩
  · have V' := SV_fr H.2.1 wle_rfl a4 a5 (fun k hk => gX_R hk) (fun k hk => gM_R hk)
    exact .inr ⟨w, τ, τm, 1101, 3, .inl ⟨rfl, rfl⟩, by rw [a1]; rfl, fun μ' hm => ⟨μ', by rw [a2]; exact hm, mf_rfl⟩, UK_fr H a3 V' wle_rfl (cds_g a4) a4 a5 hp hq⟩
  · have V' := SV_fr H.2.1 a6 a8 a9 (fun k hk => gX_R hk) (fun k hk => gM_R hk)
    obtain ⟨l1, l2⟩ := LKg (w := w) H.2.2.2 a8 a9
    exact .inl ⟨w', τ, τm, 3, v', 449, by rw [a1]; rfl, fun μ' hm => ⟨μ', by rw [a2]; exact hm, mf_rfl⟩, by decide, a6, UK_fr H a5 V' a6 (cds_g a8) a8 a9 hp hq, a3, by rw [a4, l2], mf_F a8 (gX_f (.inr rfl)), g154 a9⟩
/-- two texts in order -/
theorem cmpS_2 {N : Nat} (hN : BIG ≤ N) {w : WD} {σ μ : mS} (S : RS w σ μ) {tx tm ux um : Int32} {vx vm yx ym : Int64} (v : VV w tx vx tm vm) (u : VV w ux yx um ym) (h1 : tx = 4) (h2 : ux = 4) : ∃ r : Int32, xx2_compare N σ vx.toInt32 yx.toInt32 = some (r, σ) ∧ mm_compareStrings N μ vm.toInt32 ym.toInt32 = some (sgn r, μ) := by
  have sa := VV_str v (.inl h1)
  have sb := VV_str u (.inl h2)
  obtain ⟨ga, ga'⟩ := RS_gs S sa
  obtain ⟨gb, gb'⟩ := RS_gs S sb
  obtain ⟨za, ya⟩ := S.2.2.2.2.2.1 _ _ sa
  obtain ⟨zb, yb⟩ := S.2.2.2.2.2.1 _ _ sb
  obtain ⟨r, r1, r2⟩ := compare_x hN ga.1 gb.1
  obtain ⟨r', r3, r4⟩ := compare_m hN ga'.1 gb'.1
  have er : r = r' := by
    rw [← za, ← zb] at r4
    refine cmp_one r2 r4 (fun k k0 k1 => ya k k0 ?_) (fun k k0 k1 => yb k k0 ?_) rfl
    · split at k1
      · exact k1
      · lia
    · split at k1
      · lia
      · exact k1
  exact ⟨r, r1, by rw [er]; exact r3⟩
