/-! LAYER 2: step rules: two texts joined -/
theorem tx_19 : xtx 19 = mtx 30 := by decide +kernel
theorem tx_20 : xtx 20 = mtx 29 := by decide +kernel
theorem ME_TS {S : SR} {K : Int32 → Int32 → Int32 → Prop} {q : Int} {w : WD} {xf : Int32 → List Int32} {c d : Int32} {rest : PL2} {σ μ : mS} (M : ME S K q w xf c d rest σ μ) : TS w σ μ := by
  obtain ⟨es, es', R⟩ := M.1.1.2.2.1
  have W := M.1.1.1
  have O := M.2.2.1
  have CC := M.2.2.2.2.1
  refine ⟨M.1.1.2.1, M.2.1, O, fun a b h => ?_, fun a b h => ?_, fun a b h => ?_⟩
  · obtain ⟨t1, t2, t3, t4⟩ := RT_rng R h
    exact ⟨t1, t2, t3, t4, (R.2.2.2.2 a b h).2.2⟩
  · obtain ⟨t1, t2, t3, t4⟩ := RF_rng M.1.1.2.2.2.1 h
    exact ⟨t1, t2, by lia, by lia, (M.1.1.2.2.2.1.2.2.2 a b h).1⟩
  · rcases h with h | ⟨rfl, rfl⟩
    · have q := W.2.2.2.2.2 a b h
      have q2 := CC.1 a b h
      exact ⟨by lia, by lia, q.2.1, by lia, q2.2.2.1⟩
    · exact ⟨by decide, by decide, by decide, by decide, CC.2.2.2.2.1⟩
/-- rows in which texts are put together -/
theorem PT_u {e : EV} {w : WD} {xf : Int32 → List Int32} {c d : Int32} {rest : PL2} {f : Int32} {fl : List Int32} {ρ : List Int32} {m : Int32} {g p q F n : Int32} {σ μ : mS} {τ τm : mS} (A : PT e w xf c d rest f fl ρ m g p q F n σ μ) (fr : m_fr (fun k => k == 407) σ τ) (frm : m_fr bK μ τm) : PT e w xf c d rest f fl ρ m g p q F n τ τm := by
  have hq := A.2.2.2.1
  rw [A.2.2.2.2.2] at hq
  have T := A.1.2
  rw [A.2.2.2.2.2] at T
  refine PT_mk A ⟨mf_mono fr (fun k hk => ?_), fun k hk g _ _ => by rcases hk with rfl | rfl | rfl | rfl <;> exact mf_I fr rfl, fun i _ _ => ⟨mf_I fr rfl, mf_J fr rfl⟩⟩ ⟨mf_mono frm (fun k hk => ?_), fun j hj i _ _ => by rcases hj with rfl | rfl | rfl <;> exact mf_I frm rfl, fun i _ _ => ⟨mf_I frm rfl, mf_J frm rfl⟩⟩ ((mf_I fr rfl).trans A.2.2.1) ((mf_I frm rfl).trans hq) (TP_P T fr frm (fun k hk => by rcases hk with rfl | rfl | rfl | rfl <;> rfl) (fun k hk => by rcases hk with rfl | rfl | rfl | rfl | rfl <;> rfl))
  · simp only [xT, inR, List.contains_cons, List.contains_nil, Bool.or_eq_false_iff, beq_eq_false_iff_ne, Bool.and_eq_false_iff, decide_eq_false_iff_not] at hk ⊢
    omega
  · simp only [bK, nT, inR, List.contains_cons, List.contains_nil, Bool.or_eq_false_iff, beq_eq_false_iff_ne, Bool.and_eq_false_iff, decide_eq_false_iff_not] at hk ⊢
    (repeat' (first | exact trivial | omega | apply And.intro))
theorem ST_u {e : EV} {w : WD} {xf : Int32 → List Int32} {c d : Int32} {rest : PL2} {f : Int32} {fl : List Int32} {ρ : List Int32} {m : Int32} {g p q F n : Int32} {σ μ : mS} {τ τm : mS} (S : ST e w xf c d rest f fl ρ m g p q F n σ μ) (fr : m_fr (fun k => k == 407) σ τ) (frm : m_fr bK μ τm) : ST e w xf c d rest f fl ρ m g p q F n τ τm :=
  ⟨PT_u S.1 fr frm, by rw [mf_F fr (k := 410) rfl, mf_I fr (k := 347) rfl]; exact S.2.1, (mf_F fr rfl).trans S.2.2⟩
/-- a string is made -/
theorem make_S {e : EV} {w : WD} {xf : Int32 → List Int32} {c d : Int32} {rest : PL2} {f : Int32} {fl : List Int32} {ρ : List Int32} {m : Int32} {g p q F n : Int32} {σ μ : mS} (E : EVok e) (S : ST e w xf c d rest f fl ρ m g p q F n σ μ) {l : List Int32} (hL : hasL (σ.2.2.1 407) 0 l) (hb : bufL μ l) (len : l.length ≤ 4000) : (xx2_make (eN e) σ 407 0 (Int32.ofNat l.length) = some (.error (1101, σ)) ∧ mm_makeString (eN e) μ = bd (mm_breakOff (eN e) μ 3) (fun z => some (-1, z))) ∨ (∃ a b τ τm, xx2_make (eN e) σ 407 0 (Int32.ofNat l.length) = some (.ok (a, τ)) ∧ mm_makeString (eN e) μ = some (b, τm) ∧ 0 ≤ b ∧ VV (wAddS w a b) 4 (Int32.toInt64 a) 3 (Int32.toInt64 b) ∧ ST e (wAddS w a b) xf c d rest f fl ρ m g p q F n τ τm ∧ m_fr sK σ τ ∧ m_fr sN μ τm) := by
  have n4 : Int32.ofNat l.length ≤ 4000 := by
    rw [show (4000 : Int32) = Int32.ofNat 4000 from rfl, oN_le (by omega) (by omega)]; exact len
  have n0 := oN_nn (show l.length < 2147483648 by omega)
  have z0 : (0 : Int32) = Int32.ofNat 0 := rfl
  rcases make_h (N := eN e) (p := 0) (EV_N E) S.1.1.1.1.1.1 (vB_ba vB_407) (by decide) (by decide) n0 (by lia) (by lia) (by rw [z0, oN_add, oN_le (by omega) (by omega)]; omega) hb.1 (fun k k0 k1 => by
      have := bb_L (p := 0) (M := 8300) hL hb (by omega) (by omega) (by omega) k k0 k1
      exact this) with ⟨o1, o2⟩ | ⟨a, b, τ, τm, o1, o2, r3, a0, b0, r4, r5, r6, r7, r8⟩
  · exact .inl ⟨o1, o2⟩
  · have wl : wle w (wAddS w a b) := wAddS_le
    obtain ⟨⟨⟨H, T⟩, a1, a2, a3, a4, a5⟩, s1, s2⟩ := S
    have M2 := ME_make H.1 r3 r4 r5 r7 n4 r8
    have V : SV e (wAddS w a b) τ τm := SV_fr H.2.1 wl r4 r5 (fun k hk => by
      refine sK_t ?_
      rcases hk with hk | hk
      · have := xR_f hk; omega
      · omega) (fun k hk => by
      refine sN_t ?_
      rcases hk with hk | hk
      · have := @mR_t k
        by_cases c : 2 ≤ k ∧ k ≤ 57
        · rw [this (.inl c)] at hk; exact absurd hk (by decide)
        · omega
      · omega)
    have kx : ∀ k, kX k → sK k = false := fun k hk => by simp only [kX] at hk; exact sK_t (by omega)
    have km : ∀ k, kM k → sN k = false := fun k hk => by simp only [kM] at hk; exact sN_t (by omega)
    have hc : cds w σ τ := cds_fr r4 (sK_t (by omega)) (sK_t (by omega)) (sK_t (by omega))
    have e154 : sF τm 154 = sF μ 154 := mf_F r5 (km 154 ⟨by omega, by omega⟩)
    refine .inr ⟨a, b, τ, τm, o1, o2, b0, r6, ⟨⟨⟨MR0_fr H M2 V wl hc r4 r5 kx km, by rw [e154]; exact TP_fr T wl r4 r5 kx km⟩, (mf_I r4 (kx 344 (.inr (by omega)))).trans a1, (mf_I r4 (kx 346 (.inr (by omega)))).trans a2, ?_, (mf_F r4 (sK_t (by omega))).trans a4, e154.trans a5⟩, ?_, (mf_F r4 (sK_t (by omega))).trans s2⟩, r4, r5⟩
    · rw [e154, mff_fr r5 km (by omega)]; exact a3
    · rw [mf_F r4 (k := 410) (sK_t (by omega)), mf_I r4 (kx 347 (.inr (by omega)))]; exact s1
theorem isT_x {N : Nat} {σ : mS} {t : Int32} : xx6_isText N σ t = some ((if t = 3 then 1 else if t = 4 then 1 else 0), σ) := by
  rw [xx6_isText]
  split
  · rfl
  · split <;> rfl
theorem isW_m {N : Nat} {μ : mS} {t : Int32} : mm_isWritten N μ t = some ((if t = 3 then 1 else if t = 2 then 1 else 0), μ) := by
  rw [mm_isWritten]
  split
  · rfl
  · split <;> rfl
theorem isW_e {w : WD} {tx tm : Int32} {vx vm : Int64} (v : VV w tx vx tm vm) : (if tm = 3 then (1 : Int32) else if tm = 2 then 1 else 0) = (if tx = 3 then 1 else if tx = 4 then 1 else 0) := by
  have t := VV_t v
  by_cases c3 : tx = 3
  · rw [if_pos c3, t.2.1.mp c3]; rfl
  · rw [if_neg c3]
    by_cases c4 : tx = 4
    · rw [if_pos c4, t.2.2.1.mp c4]; rfl
    · rw [if_neg c4, if_neg (fun q => c4 (t.2.2.1.mpr q)), if_neg (fun q => c3 (t.2.1.mpr q))]
theorem tw_1 {t : Int32} (h : ¬ (if t = 3 then (1 : Int32) else if t = 4 then 1 else 0) = 0) : t = 3 ∨ t = 4 := by
  by_cases c3 : t = 3
  · exact .inl c3
  · by_cases c4 : t = 4
    · exact .inr c4
    · rw [if_neg c3, if_neg c4] at h
      exact absurd rfl h
theorem xw_407 {p n : Nat} {σ τ : mS} (h : xw 407 p n σ τ) : m_fr (fun k => k == 407) σ τ := h.1
theorem x_sv_T {w : WD} {σ μ : mS} (S : RS w σ μ) {tx tm : Int32} {vx vm : Int64} (v : VV w tx vx tm vm) (h : tx = 4) : x_sv σ vx.toInt32 := (RS_gs S (VV_str v (.inl h))).1.1
