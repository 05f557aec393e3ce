/-! LAYER 2: bad arguments: the message on both sides -/
/-- where a function's name begins in the reference's text of names -/
def nmAt : Nat → Nat
  | 0 => 0
  | i + 1 => nmAt i + (xtx (x_st 512 i)).length + 1
theorem nm_ok : ∀ i, i < 46 → (∀ j, j < (xtx (x_st 512 i)).length → (mtx 34).getD (nmAt i + j) 0 = (xtx (x_st 512 i)).getD j 0 ∧ (xtx (x_st 512 i)).getD j 0 ≠ 32 ∧ (xtx (x_st 512 i)).getD j 0 &&& 255 = (xtx (x_st 512 i)).getD j 0) ∧ (mtx 34).getD (nmAt i + (xtx (x_st 512 i)).length) 0 = 32 ∧ nmAt i + (xtx (x_st 512 i)).length < 306 ∧ (xtx (x_st 512 i)).length ≤ 20 ∧ x_st 512 i < 141 := by decide +kernel
theorem nm_b {k : Nat} (h : k < 306) : ms_b 34 k &&& 255 = (mtx 34).getD k 0 := by
  have l34 : (ms_by.getD 34 []).length = 306 := by decide +kernel
  exact (gD_map (by rw [l34]; exact h)).symm
theorem nm_in {k : Nat} (h : k < 306) : inB (Int32.ofNat k) (ms_l 34) = true := by
  have l34 : ms_l 34 = 306 := by decide +kernel
  rw [l34]
  exact tI_in (by rw [tI_lit (by omega)]; omega) (by rw [tI_lit (by omega)]; omega)
theorem nm_tB : tB 34 = true := by simp only [tB, decide_eq_true_eq]; omega
theorem nm36_lp {N i : Nat} (hi : i < 46) : ∀ (n j : Nat) (μ : mS) (l : List Int32), j ≤ (xtx (x_st 512 i)).length → (xtx (x_st 512 i)).length - j < n → bufL μ l → l.length + 100 < 1000000 + j → ∃ τ, mm_putName_36 N n (Int32.ofNat (nmAt i + j)) μ = some τ ∧ bufL τ (l ++ (xtx (x_st 512 i)).drop j) ∧ m_fr bK μ τ := by
  obtain ⟨a1, a2, a3, a4, a5⟩ := nm_ok i hi
  intro n
  induction n with
  | zero => intro j μ l _ h; omega
  | succ n ih =>
    intro j μ l hj hn hb hl
    have kk : nmAt i + j < 306 := by omega
    rw [mm_putName_36, nm_tB, nm_in kk, oN_cl (by omega), nm_b kk]
    simp only [gd]
    by_cases c : j < (xtx (x_st 512 i)).length
    · obtain ⟨b1, b2, b3⟩ := a1 j c
      rw [b1, if_neg b2]
      obtain ⟨τ, e1, e2, e3⟩ := put_m (N := N) (b := (xtx (x_st 512 i)).getD j 0) hb (by omega)
      rw [b3] at e2
      simp only [e1, bd, lt, oN_s]
      rw [show nmAt i + j + 1 = nmAt i + (j + 1) from by omega]
      obtain ⟨υ, f1, f2, f3⟩ := ih (j + 1) τ _ (by omega) (by omega) e2 (by
        rw [List.length_append, List.length_singleton]; omega)
      refine ⟨υ, f1, ?_, mf_tr e3 f3⟩
      rw [dr_1 c]
      rw [List.append_assoc] at f2
      exact f2
    · have ej : j = (xtx (x_st 512 i)).length := by omega
      rw [ej, a2, if_pos rfl]
      refine ⟨μ, rfl, ?_, mf_rfl⟩
      rw [List.drop_eq_nil_of_le (Nat.le_refl _), List.append_nil]; exact hb
theorem nm9_lp {N i : Nat} (hi : i < 46) {r4 : Int32 → Int32 → Int32 → mS → Option mS} {v1 v3 : Int32} {μ : mS} : ∀ (n j : Nat), j ≤ (xtx (x_st 512 i)).length → (xtx (x_st 512 i)).length - j < n → mm_putName_9 N r4 n v1 (Int32.ofNat (nmAt i + j)) v3 μ = r4 v1 (Int32.ofNat (nmAt (i + 1))) (v3 + 1) μ := by
  obtain ⟨a1, a2, a3, a4, a5⟩ := nm_ok i hi
  intro n
  induction n with
  | zero => intro j _ h; omega
  | succ n ih =>
    intro j hj hn
    have kk : nmAt i + j < 306 := by omega
    rw [mm_putName_9, nm_tB, nm_in kk, oN_cl (by omega), nm_b kk]
    simp only [gd]
    by_cases c : j < (xtx (x_st 512 i)).length
    · obtain ⟨b1, b2, b3⟩ := a1 j c
      rw [b1, if_neg b2]
      simp only [lt, oN_s]
      rw [show nmAt i + j + 1 = nmAt i + (j + 1) from by omega]
      exact ih (j + 1) (by omega) (by omega)
    · have ej : j = (xtx (x_st 512 i)).length := by omega
      rw [ej, a2, if_pos rfl]
      simp only [lt, oN_s]
      rfl
theorem nm4_lp {N lib : Nat} (hN : BIG ≤ N) (hl : lib < 46) {μ : mS} : ∀ (n i : Nat), i ≤ lib → lib - i < n → mm_putName_4 N n (Int32.ofNat lib) (Int32.ofNat (nmAt i)) (Int32.ofNat i) μ = mm_putName_36 N N (Int32.ofNat (nmAt lib)) μ := by
  intro n
  induction n with
  | zero => intro i _ h; omega
  | succ n ih =>
    intro i hi hn
    rw [mm_putName_4]
    by_cases c : lib ≤ i
    · have e : i = lib := by omega
      rw [if_pos ((oN_le (by omega) (by omega)).mpr c), e]
    · rw [if_neg (fun q => c ((oN_le (by omega) (by omega)).mp q))]
      have := nm9_lp (N := N) (i := i) (by omega) (r4 := mm_putName_4 N n) (v1 := Int32.ofNat lib) (v3 := Int32.ofNat i) (μ := μ) N 0 (by omega) (by
        have := (nm_ok i (by omega)).2.2.2.1
        simp only [BIG] at hN
        omega)
      rw [Nat.add_zero] at this
      rw [this, oN_s]
      exact ih (i + 1) (by omega) (by omega)
theorem putName_m {N lib : Nat} (hN : BIG ≤ N) (hl : lib < 46) {μ : mS} {l : List Int32} (hb : bufL μ l) (h : l.length < 900000) : ∃ τ, mm_putName N μ (Int32.ofNat lib) = some τ ∧ bufL τ (l ++ xtx (x_st 512 lib)) ∧ m_fr bK μ τ := by
  have e := nm4_lp (N := N) hN hl (μ := μ) N 0 (by omega) (by simp only [BIG] at hN; omega)
  have f := nm36_lp (N := N) hl N 0 μ l (by omega) (by
    have := (nm_ok lib hl).2.2.2.1
    simp only [BIG] at hN
    omega) hb (by omega)
  rw [mm_putName]
  have z : (Int32.ofNat (nmAt 0) : Int32) = 0 := rfl
  have z' : (Int32.ofNat 0 : Int32) = 0 := rfl
  rw [z, z'] at e
  rw [e]
  exact f
theorem tx_107 : xtx 107 = mtx 35 := by decide +kernel
theorem tx_108 : xtx 108 = mtx 36 := by decide +kernel
theorem tx_len : (xtx 107).length ≤ 100 ∧ (xtx 108).length ≤ 100 := by decide +kernel
/-- the message behind the line goes to where it is made a string -/
theorem b100_x {N : Nat} {σ : mS} {l m : List Int32} (hl : l.length ≤ 22) (hm : m.length ≤ 300) (h1 : hasL (σ.2.2.1 521) 0 l) (h2 : hasL (σ.2.2.1 522) 0 m) : ∃ τ, xx8_bad_b100 N (Int32.ofNat m.length) (Int32.ofNat l.length) σ = bx (xx2_make N τ 521 0 (Int32.ofNat (l ++ m).length)) (fun z4 => bd (xx6_raise N z4.2 4 (Int32.toInt64 z4.1)) (fun z5 => some (Except.ok (z5.1, z5.2)))) ∧ hasL (τ.2.2.1 521) 0 (l ++ m) ∧ m_fr sX σ τ := by
  have cB : ∀ p : Nat, p ≤ 22 → x_cB (Int32.ofNat p) (Int32.ofNat m.length) 4200 = true := fun p hp => by
    simp only [x_cB, Bool.and_eq_true, decide_eq_true_eq]
    rw [tI_lit (by omega), tI_lit (by omega)]
    omega
  have z0 : (Int32.ofNat 0 : Int32) = 0 := rfl
  have x := cp_xw (σ := σ) (i := 522) (j := 521) (sp := 0) (p := l.length) (n := Int32.ofNat m.length) (l := m.length) (by omega) (oN_cl (by omega))
  refine ⟨x_cp σ 522 0 521 (Int32.ofNat l.length) (Int32.ofNat m.length), ?_, hasL_app.mpr ⟨hasL_xw h1 x (by omega), fun k hk => ?_⟩, xw_sX x (.inr (.inr (.inl rfl)))⟩
  · rw [xx8_bad_b100, vB_522.1, vB_521.1, vB_522.2.1, vB_521.2.1, ← z0, cB 0 (by omega), cB l.length hl]
    simp only [Bool.and_self, gd, lt]
    rw [List.length_append, Int32.ofNat_add]
  · rw [cp_at, oN_cl (by omega), oN_cl (by omega), if_pos (by omega)]
    have := h2 k hk
    rw [Nat.zero_add] at this
    rw [show 0 + l.length + k - l.length = k from by omega, show (0 : Int32).toNatClampNeg = 0 from rfl, Nat.zero_add]
    exact this
/-- bad(argument) -/
theorem bad_2 {N : Nat} (hN : BIG ≤ N) {S : SR} {K : Int32 → Int32 → Int32 → Prop} {q : Int} {w : WD} {xf : Int32 → List Int32} {c d : Int32} {rest : PL2} {σ μ : mS} (H : ME S K q w xf c d rest σ μ) (hl : LK σ (mff μ) (sI μ 162 d) (xf c) (sF μ 154)) {k : Int32} {lib : Nat} (hlib : lib < 46) (h541 : sF σ 541 = Int32.ofNat lib) (dd : Nat) :
    (∃ τ τm, xx8_bad N σ k = some (.error (1101, τ)) ∧ bd (mm_beginMessage N μ) (fun z1 => bd (mm_putText N z1 35) (fun z2 => bd (mm_putNumber N z2 (Int32.toInt64 k)) (fun z3 => bd (mm_putText N z3 36) (fun z4 => bd (mm_putName N z4 (Int32.ofNat lib)) (fun z5 => mb_raiseMessage N (rc_finish N dd) z5))))) = mm_breakOff N τm 3 ∧ ME S K q w xf c d rest τ τm ∧ m_fr gX σ τ ∧ m_fr gM μ τm)
    ∨ (∃ τ τm w' v', xx8_bad N σ k = some (.ok (1107, τ)) ∧ bd (mm_beginMessage N μ) (fun z1 => bd (mm_putText N z1 35) (fun z2 => bd (mm_putNumber N z2 (Int32.toInt64 k)) (fun z3 => bd (mm_putText N z3 36) (fun z4 => bd (mm_putName N z4 (Int32.ofNat lib)) (fun z5 => mb_raiseMessage N (rc_finish N dd) z5))))) = (rc_finish N dd).2.2.1 τm 3 v' ∧ TH w' τ 3 v' ∧ sF τ 405 = lnH σ (xf c) ∧ ME S K q w' xf c d rest τ τm ∧ wle w w' ∧ wC w' = wC w ∧ m_fr gX σ τ ∧ m_fr gM μ τm) := by
  have cl := (ME_calls H).2.1
  have c255 : sF μ 154 ≤ 255 := Int32.le_trans cl (by decide)
  obtain ⟨l, hlP⟩ := lnP_ex (lnH σ (xf c))
  have ll := lnP_len hlP
  obtain ⟨t, ht⟩ := numT_ex (Int32.toInt64 k)
  have tl := numT_len ht
  obtain ⟨nm1, nm2, nm3, nm4, nm5⟩ := nm_ok lib hlib
  have hx := tx_len
  have f0 : m_fr bK μ (md_pi μ 17 0) := mf_pi mf_rfl rfl
  have H0 := ME_sc H (mf_rfl (σ := σ)) f0
  obtain ⟨k1, k2⟩ := LKg (w := w) hl (mf_rfl (σ := σ)) (bK_g f0)
  have la0 := lah_2 hN H0 (by rw [g162 (bK_g f0), g154 (bK_g f0)]; exact k1) (by rw [g154 (bK_g f0)]; exact c255)
  -- the reference
  obtain ⟨μ1, b1, b2, b3⟩ := beginMessage_m hN hlP (lnH_nn hl) la0.2
  obtain ⟨μ2, c1, c2, c3⟩ := putText_m hN (t := 35) (by decide) b2 (by omega)
  rw [← tx_107] at c2
  obtain ⟨μ3, d1, d2, d3⟩ := putNumber_m hN ht c2 (by rw [List.length_append]; omega)
  obtain ⟨μ4, e1, e2, e3⟩ := putText_m hN (t := 36) (by decide) d2 (by rw [List.length_append, List.length_append]; omega)
  rw [← tx_108] at e2
  obtain ⟨μ5, g1, g2, g3⟩ := putName_m hN hlib e2 (by rw [List.length_append, List.length_append, List.length_append]; omega)
  have fm : m_fr bK μ μ5 := mf_tr b3 (mf_tr c3 (mf_tr d3 (mf_tr e3 g3)))
  have em : bd (mm_beginMessage N μ) (fun z1 => bd (mm_putText N z1 35) (fun z2 => bd (mm_putNumber N z2 (Int32.toInt64 k)) (fun z3 => bd (mm_putText N z3 36) (fun z4 => bd (mm_putName N z4 (Int32.ofNat lib)) (fun z5 => mb_raiseMessage N (rc_finish N dd) z5))))) = mb_raiseMessage N (rc_finish N dd) μ5 := by
    rw [b1]
    simp only [bd]
    rw [c1]
    simp only [bd]
    rw [d1]
    simp only [bd]
    rw [e1]
    simp only [bd]
    rw [g1]
  -- the system
  obtain ⟨σ1, x1, x2, x3⟩ := ascii_L hN (p := 0) (σ := σ) (t := 107) (by decide) vB_522 (by omega)
  obtain ⟨σ2, y1, y2, y3⟩ := digits_L hN (p := 0 + (xtx 107).length) (σ := σ1) ht vB_522 (by omega)
  obtain ⟨σ3, z1, z2, z3⟩ := ascii_L hN (p := 0 + (xtx 107).length + t.length) (σ := σ2) (t := 108) (by decide) vB_522 (by omega)
  obtain ⟨σ4, w1, w2, w3⟩ := ascii_L hN (p := 0 + (xtx 107).length + t.length + (xtx 108).length) (σ := σ3) (t := x_st 512 lib) nm5 vB_522 (by omega)
  have fx3 : m_fr sX σ σ3 := mf_tr (xw_sX x3 (.inr (.inr (.inr rfl)))) (mf_tr (xw_sX y3 (.inr (.inr (.inr rfl)))) (xw_sX z3 (.inr (.inr (.inr rfl)))))
  have fx4 : m_fr sX σ σ4 := mf_tr fx3 (xw_sX w3 (.inr (.inr (.inr rfl))))
  have m541 : sF σ3 541 = Int32.ofNat lib := by rw [mf_F fx3 (sX_f (.inr (.inl (by decide))))]; exact h541
  have H4 := ME_sc H fx4 (mf_rfl (σ := μ))
  obtain ⟨j1, j2⟩ := LKg (w := w) hl (sX_g fx4) (mf_rfl (σ := μ))
  have la4 := (lah_2 hN H4 j1 c255).1
  rw [j2] at la4
  obtain ⟨m, hm⟩ : ∃ m, m = xtx 107 ++ t ++ xtx 108 ++ xtx (x_st 512 lib) := ⟨_, rfl⟩
  have ml : m.length = (xtx 107).length + t.length + (xtx 108).length + (xtx (x_st 512 lib)).length := by rw [hm]; simp only [List.length_append]
  have hL4 : hasL (σ4.2.2.1 522) 0 m := by
    have p1 : hasL (σ2.2.2.1 522) 0 (xtx 107 ++ t) := hasL_app.mpr ⟨hasL_xw x2 y3 (by omega), y2⟩
    have p2 : hasL (σ3.2.2.1 522) 0 (xtx 107 ++ t ++ xtx 108) := hasL_app.mpr ⟨hasL_xw p1 z3 (by rw [List.length_append]; omega), by rw [List.length_append, ← Nat.add_assoc]; exact z2⟩
    rw [hm]
    exact hasL_app.mpr ⟨hasL_xw p2 w3 (by rw [List.length_append, List.length_append]; omega), by rw [List.length_append, List.length_append, ← Nat.add_assoc, ← Nat.add_assoc]; exact w2⟩
  have lnn := lnH_nn hl
  -- the line before it
  have fin : ∃ τ, xx8_bad N σ k = bx (xx2_make N τ 521 0 (Int32.ofNat (l ++ m).length)) (fun z4 => bd (xx6_raise N z4.2 4 (Int32.toInt64 z4.1)) (fun z5 => some (Except.ok (z5.1, z5.2)))) ∧ hasL (τ.2.2.1 521) 0 (l ++ m) ∧ m_fr sX σ τ := by
    have st : xx8_bad N σ k = (if lnH σ (xf c) ≤ 0 then xx8_bad_b100 N (Int32.ofNat m.length) 0 σ4 else bd (xx6_digits N σ4 (Int32.toInt64 (lnH σ (xf c))) 521 0) (fun z9 => lt (z9.1 + (1 : Int32)) (fun x10 : Int32 => gd (inB (z9.1) 4200) (lt (md_ai z9.2 521 (Int32.toNatClampNeg (z9.1)) (vp_nar .byte ((58 : Int32)))) (fun σ11 : mS => lt (x10 + (1 : Int32)) (fun x12 : Int32 => gd (inB (x10) 4200) (lt (md_ai σ11 521 (Int32.toNatClampNeg (x10)) (vp_nar .byte ((32 : Int32)))) (fun σ13 : mS => xx8_bad_b100 N (Int32.ofNat m.length) (x12) σ13))))))) ) := by
      have z0 : (Int32.ofNat 0 : Int32) = 0 := rfl
      rw [z0] at x1
      rw [xx8_bad, x1]
      simp only [bd]
      rw [y1]
      simp only [bd]
      rw [z1]
      simp only [bd, sF_fold]
      rw [m541, show inB (Int32.ofNat lib) 46 = true from tI_in (by rw [tI_lit (by omega)]; omega) (by rw [tI_lit (by omega)]; omega), oN_cl (by omega)]
      simp only [gd]
      rw [w1]
      simp only [bd]
      rw [la4, ml, Nat.zero_add]
    rcases hlP with ⟨q1, q2⟩ | ⟨q1, u, q2, q3⟩
    · obtain ⟨τ, r1, r2, r3⟩ := b100_x (N := N) (σ := σ4) (l := l) (m := m) ll (by omega) (by rw [q2]; exact hasL_nil) hL4
      refine ⟨τ, ?_, r2, mf_tr fx4 r3⟩
      rw [st, q1, if_pos (by decide), ← r1, q2]
      rfl
    · have np : ¬ lnH σ (xf c) ≤ 0 := fun z => q1 (Int32.le_antisymm z lnn)
      have ul := numT_len q2
      obtain ⟨σ5, s1, s2, s3⟩ := digits_L hN (p := 0) (σ := σ4) q2 vB_521 (by omega)
      have z0 : (Int32.ofNat 0 : Int32) = 0 := rfl
      rw [z0] at s1
      obtain ⟨t1, t2, t3⟩ := wr_1 (σ := σ5) (v := 521) (p := 0) (L := 4200) (l := u) (b := 58) vB_521 s2 (by omega)
      obtain ⟨v1, v2, v3⟩ := wr_1 (σ := md_ai σ5 521 (0 + u.length) (vp_nar .byte 58)) (v := 521) (p := 0) (L := 4200) (l := u ++ [58 &&& 255]) (b := 32) vB_521 t2 (by rw [List.length_append, List.length_singleton]; omega)
      rw [List.length_append, List.length_singleton] at v1 v2 v3
      rw [vB_521.2.1] at t1 v1
      have e58 : u ++ [58 &&& 255] ++ [32 &&& 255] = l := by rw [q3, List.append_assoc]; rfl
      rw [e58] at v2
      have x521 : ∀ {p n : Nat} {a b : mS}, xw 521 p n a b → m_fr sX a b := fun h => xw_sX h (.inr (.inr (.inl rfl)))
      have fx6 := mf_tr (x521 s3) (mf_tr (x521 t3) (x521 v3))
      have hm6 : hasL ((md_ai (md_ai σ5 521 (0 + u.length) (vp_nar .byte 58)) 521 (0 + (u.length + 1)) (vp_nar .byte 32)).2.2.1 522) 0 m := hasL_congr hL4 (fun i _ _ => by
        rw [v3.1.2.2.1 522 rfl, t3.1.2.2.1 522 rfl, s3.1.2.2.1 522 rfl])
      obtain ⟨τ, r1, r2, r3⟩ := b100_x (N := N) (l := l) (m := m) ll (by omega) v2 hm6
      refine ⟨τ, ?_, r2, mf_tr fx4 (mf_tr fx6 r3)⟩
      rw [st, if_neg np, s1, ← r1]
      simp only [bd, lt]
      rw [show Int32.ofNat (0 + u.length) + 1 = Int32.ofNat (0 + (u.length + 1)) from by rw [oN_s, Nat.add_assoc], t1, v1, oN_cl (by omega), oN_cl (by omega)]
      simp only [gd]
      have l2 : l.length = 0 + (u.length + 1) + 1 := by rw [← e58]; simp only [List.length_append, List.length_singleton]; omega
      rw [l2, oN_s]
  obtain ⟨τ5, ex, hL, fxa⟩ := fin
  have fx : m_fr sX σ τ5 := fxa
  have H2 := ME_sc H fx fm
  obtain ⟨i1, i2⟩ := LKg (w := w) hl (sX_g fx) (bK_g fm)
  have g2' : bufL μ5 (l ++ m) := by
    rw [hm]
    simp only [List.append_assoc] at g2 ⊢
    exact g2
  rw [ex, em]
  rcases msg_2 hN H2 (by rw [g162 (bK_g fm), g154 (bK_g fm)]; exact i1) (.inr rfl) hL g2' (by rw [List.length_append]; omega) dd with ⟨r1, r2⟩ | ⟨τ, τm, w', v', r1, r2, r3, r4, r5, r6, r7, r8, r9⟩
  · left
    exact ⟨τ5, μ5, r1, r2, H2, sX_g fx, bK_g fm⟩
  · right
    exact ⟨τ, τm, w', v', r1, r2, r3, by rw [r4, i2], r5, r6, r7, mf_tr (sX_g fx) r8, mf_tr (bK_g fm) r9⟩
theorem bad_OE {e : EV} (E : EVok e) {w : WD} {xf : Int32 → List Int32} {c d : Int32} {rest : PL2} {ct : CT} {σ μ : mS} (H : CL e w xf c d rest ct σ μ) {k : Int32} {lib : Nat} (hlib : lib < 46) (h541 : sF σ 541 = Int32.ofNat lib) {α : Type} : OE (α := α) e w xf c d rest ct σ μ (fun z => z) (bx (xx8_bad (eN e) σ k) (fun z => some (Except.error (z.1, z.2)))) (mm_bad (eN e) μ k (Int32.ofNat lib)) := by
  have hp : ∀ k, kX k → gX k = false := fun k hk => gX_f (.inl hk)
  have hq : ∀ k, kM k → gM k = false := fun k hk => gM_k (.inl hk)
  have q : mm_bad (eN e) μ k (Int32.ofNat lib) = bd (mm_beginMessage (eN e) μ) (fun z1 => bd (mm_putText (eN e) z1 35) (fun z2 => bd (mm_putNumber (eN e) z2 (Int32.toInt64 k)) (fun z3 => bd (mm_putText (eN e) z3 36) (fun z4 => bd (mm_putName (eN e) z4 (Int32.ofNat lib)) (fun z5 => mb_raiseMessage (eN e) (rc_finish (eN e) 449) z5))))) := by
    have r : ∀ z, mm_raiseMessage (eN e) z = mb_raiseMessage (eN e) (rc_finish (eN e) 449) z := fun _ => rfl
    simp only [mm_bad, bd_id, r]
  rw [q]
  rcases bad_2 (EV_N E) H.1 (FL_LK H.2.2) hlib h541 449 with ⟨τ, τm, a1, a2, a3, a4, a5⟩ | ⟨τ, τm, w', v', a1, a2, a3, a4, a5, a6, a7, a8, a9⟩
  · have V' := SV_fr H.2.1 wle_rfl a4 a5 (fun k hk => gX_R hk) (fun k hk => gM_R hk)
    exact .inr ⟨w, τ, τm, 1101, 3, .inl ⟨rfl, rfl⟩, by rw [a1]; rfl, fun μ' hm => ⟨μ', by rw [a2]; exact hm, mf_rfl⟩, CL_fr H a3 V' wle_rfl (cds_g a4) a4 a5 hp hq⟩
  · have V' := SV_fr H.2.1 a6 a8 a9 (fun k hk => gX_R hk) (fun k hk => gM_R hk)
    obtain ⟨l1, l2⟩ := LKg (w := w) (FL_LK H.2.2) a8 a9
    exact .inl ⟨w', τ, τm, 3, v', 449, by rw [a1]; rfl, fun μ' hm => ⟨μ', by rw [a2]; exact hm, mf_rfl⟩, by decide, a6, CL_fr H a5 V' a6 (cds_g a8) a8 a9 hp hq, a3, by rw [a4, l2], mf_F a8 (gX_f (.inr rfl)), g154 a9⟩
