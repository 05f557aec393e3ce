/-! LAYER 2: an error ends the run -/
theorem err_2 {e : EV} (E : EVok e) {w : WD} {xf : Int32 → List Int32} {τ μ : mS} {b ln ty : Int32} {v : Int64} (H : ME (eS e) (eK e) (eQ e) w xf 0 120 [] τ (mPop μ (sI μ 162 120) b)) (V : SV e w τ (mPop μ (sI μ 162 120) b)) (hf : xf 0 = []) (hb : b - sI μ 162 120 = sF μ 155 - sF μ 154) (th : TH w τ ty v) (hd : sF μ 172 = 120) (hl : sF τ 405 = ln) (la : mm_lineAtHand (eN e) μ = some (ln, μ)) (T : ty_finish) (r0 : Int32 → Int64 → mS → Option mS) : ∃ rx μ', mm_raise_39 (eN e) T r0 ty v (sI μ 162 120 - 1) μ = some μ' ∧ (∀ k n', cE e n' (uH e k (some (.ok (0, τ)))) = some rx) ∧ ∀ M, MF e M μ' rx := by
  have hN := EV_N E
  have f162 : sI (mPop μ (sI μ 162 120) b) 162 120 = sI μ 162 120 := by simp only [mPop, sF_pi, sF_pl, sF_ai, sF_al, sG_pi, sG_pl, sG_ai, sG_al, sI_pi, sI_pl, sI_al, sI_ai1, sI_ai2, sJ_pi, sJ_pl, sJ_ai, sJ_al1, sJ_al2, Nat.reduceEqDiff, if_true, if_false, ne_eq, not_false_eq_true, ite_true, ite_false]
  have c162 : sI μ 162 120 = 0 := by rw [← f162]; exact H.2.2.2.2.2.1.2.2.1
  rw [c162] at H V hb
  have cc := ME_c H
  obtain ⟨ncx, pcx⟩ := cX_nd H.2.2.2.2.1
  have fuel := H.2.2.2.2.2.2.2.2.2.1
  obtain ⟨v1, v2, v3, ⟨u1, u2, u3, u4⟩, v5, v6, v7⟩ := V
  have tv := VV_tag th
  obtain ⟨υ, k1, k2, k3, k4, k5, k6, k7⟩ := killAll_lp hN ncx pcx [] 0 xf τ (eN e) H.2.2.2.1 rfl (fun x hx => by
    have : x = 0 := by simpa using hx
    rw [this]; exact cc.1) (by simp) (by have := E.1; simp; omega)
  have n178 : sF τ 339 = 0 := H.2.2.2.2.2.2.1.1
  have kk : xx5_killAll (eN e) τ = some υ := by
    rw [xx5_killAll]
    simp only [lt, sF_fold, n178]
    exact k1
  let μ' := md_pi (md_al (md_ai (md_pi (md_pi (md_pi (md_pi (md_pi (md_pi μ 181 ln) 155 (sF μ 155 - sF μ 154)) 154 0) 143 0) 178 1) 179 1) 185 0 ty) 186 0 v) 187 1
  have rs : mm_raise_39 (eN e) T r0 ty v (sI μ 162 120 - 1) μ = some μ' := by
    have nt : vp_nar .byte (ty.toInt8.toInt32) = ty := nar_tag tv.2.2.1 (by lia)
    have zz : (0 : Int32).toNatClampNeg = 0 := rfl
    simp (disch := lia) only [mm_raise_39, lt, gd_in, if_pos, if_neg, ↓reduceIte, gd_z0, gd_z1, gd_tt, sF_fold, sG_fold, sI_fold, sJ_fold, sF_pi, sF_pl, sF_ai, sF_al, sG_pi, sG_pl, sG_ai, sG_al, sI_pi, sI_pl, sI_al, sI_ai1, sI_ai2, sJ_pi, sJ_pl, sJ_ai, sJ_al1, sJ_al2, Nat.reduceEqDiff, if_true, if_false, ne_eq, not_false_eq_true, ite_true, ite_false, hd, la, bd, nt, zz, c162, μ']
  have fr0 : m_fr eM μ μ' := mf_pi (mf_al (mf_ai (mf_pi (mf_pi (mf_pi (mf_pi (mf_pi (mf_pi mf_rfl rfl) rfl) rfl) rfl) rfl) rfl) rfl) rfl) rfl
  have frp : m_fr eM μ (mPop μ 0 b) := mf_pi (mf_pi mf_rfl rfl) rfl
  have fre0 : m_fr eM μ (mEnd μ') := mf_tr fr0 mEnd_fr
  have fre : m_fr eM (mPop μ 0 b) (mEnd μ') := ⟨fun k hk => by rw [fre0.1 k hk, frp.1 k hk], fun k hk => by rw [fre0.2.1 k hk, frp.2.1 k hk], fun k hk => by rw [fre0.2.2.1 k hk, frp.2.2.1 k hk], fun k hk => by rw [fre0.2.2.2 k hk, frp.2.2.2 k hk]⟩
  have frx : m_fr eX τ υ := mf_mono k3 (fun k hk => by
    simp only [eX, Bool.or_eq_false_iff] at hk
    exact hk.1)
  have g4 : sF (mPop μ 0 b) 154 = 0 := by simp only [mPop, sF_pi, sF_pl, sF_ai, sF_al, sG_pi, sG_pl, sG_ai, sG_al, sI_pi, sI_pl, sI_al, sI_ai1, sI_ai2, sJ_pi, sJ_pl, sJ_ai, sJ_al1, sJ_al2, Nat.reduceEqDiff, if_true, if_false, ne_eq, not_false_eq_true, ite_true, ite_false]
  have g5 : sF (mPop μ 0 b) 155 = b := by simp only [mPop, sF_pi, sF_pl, sF_ai, sF_al, sG_pi, sG_pl, sG_ai, sG_al, sI_pi, sI_pl, sI_al, sI_ai1, sI_ai2, sJ_pi, sJ_pl, sJ_ai, sJ_al1, sJ_al2, Nat.reduceEqDiff, if_true, if_false, ne_eq, not_false_eq_true, ite_true, ite_false]
  have g162 : sI (mPop μ 0 b) 162 120 = 0 := by simp only [mPop, sF_pi, sF_pl, sF_ai, sF_al, sG_pi, sG_pl, sG_ai, sG_al, sI_pi, sI_pl, sI_al, sI_ai1, sI_ai2, sJ_pi, sJ_pl, sJ_ai, sJ_al1, sJ_al2, Nat.reduceEqDiff, if_true, if_false, ne_eq, not_false_eq_true, ite_true, ite_false]; exact c162
  have LKx : LK τ (mff (mPop μ 0 b)) (sI (mPop μ 0 b) 162 120) (xf 0) (sF (mPop μ 0 b) 154) := by rw [hf, g4, g162]; rfl
  have QQ : QU (eS e) (eK e) (eQ e) w (fE xf ((0 : Int32) :: ([] : PL2).map Prod.fst)) υ (mEnd μ') := by
    refine QU_of H LKx k2 frx fre ?_ (fun x x0 _ => ?_) (fun x x0 _ => ?_) ?_ (fun x x0 x1 => ?_)
    · exact k4
    · exact k5 x x0
    · exact k6 x x0
    · have : sF (mEnd μ') 155 = sF μ' 155 := by simp only [mEnd, sF_pi, sF_pl, sF_ai, sF_al, sG_pi, sG_pl, sG_ai, sG_al, sI_pi, sI_pl, sI_al, sI_ai1, sI_ai2, sJ_pi, sJ_pl, sJ_ai, sJ_al1, sJ_al2, Nat.reduceEqDiff, if_true, if_false, ne_eq, not_false_eq_true, ite_true, ite_false]
      rw [this, g4, g5]
      simp only [μ', sF_pi, sF_pl, sF_ai, sF_al, sG_pi, sG_pl, sG_ai, sG_al, sI_pi, sI_pl, sI_al, sI_ai1, sI_ai2, sJ_pi, sJ_pl, sJ_ai, sJ_al1, sJ_al2, Nat.reduceEqDiff, if_true, if_false, ne_eq, not_false_eq_true, ite_true, ite_false]
      rw [← hb]
    · rw [if_neg (fun q => by have : x = 120 := by simpa using q
                              lia)]
      have a1 : sI (mEnd μ') 156 x = sI μ' 156 x := by
        simp only [mEnd, sF_pi, sF_pl, sF_ai, sF_al, sG_pi, sG_pl, sG_ai, sG_al, sI_pi, sI_pl, sI_al, sI_ai1, sI_ai2, sJ_pi, sJ_pl, sJ_ai, sJ_al1, sJ_al2, Nat.reduceEqDiff, if_true, if_false, ne_eq, not_false_eq_true, ite_true, ite_false]
        rw [show (120 : Nat) = (120 : Int32).toNatClampNeg from rfl, sI_ai (by decide) x0, if_neg (fun q => by lia)]
        simp only [sF_pi, sF_pl, sF_ai, sF_al, sG_pi, sG_pl, sG_ai, sG_al, sI_pi, sI_pl, sI_al, sI_ai1, sI_ai2, sJ_pi, sJ_pl, sJ_ai, sJ_al1, sJ_al2, Nat.reduceEqDiff, if_true, if_false, ne_eq, not_false_eq_true, ite_true, ite_false]
      rw [a1]
      simp (disch := lia) only [μ', mPop, sF_pi, sF_pl, sF_ai, sF_al, sG_pi, sG_pl, sG_ai, sG_al, sI_pi, sI_pl, sI_al, sI_ai1, sI_ai2, sJ_pi, sJ_pl, sJ_ai, sJ_al1, sJ_al2, Nat.reduceEqDiff, if_true, if_false, ne_eq, not_false_eq_true, ite_true, ite_false]
  have m178 : sF μ' 178 = 1 := by simp only [μ', sF_pi, sF_pl, sF_ai, sF_al, sG_pi, sG_pl, sG_ai, sG_al, sI_pi, sI_pl, sI_al, sI_ai1, sI_ai2, sJ_pi, sJ_pl, sJ_ai, sJ_al1, sJ_al2, Nat.reduceEqDiff, if_true, if_false, ne_eq, not_false_eq_true, ite_true, ite_false]
  have m179 : sF μ' 179 = 1 := by simp only [μ', sF_pi, sF_pl, sF_ai, sF_al, sG_pi, sG_pl, sG_ai, sG_al, sI_pi, sI_pl, sI_al, sI_ai1, sI_ai2, sJ_pi, sJ_pl, sJ_ai, sJ_al1, sJ_al2, Nat.reduceEqDiff, if_true, if_false, ne_eq, not_false_eq_true, ite_true, ite_false]
  suffices FN : FIN e (1, υ) (sF μ' 179, mEnd μ') by
    refine ⟨(1, υ), μ', rs, fun k n' => ?_, fun M => MT_F (MT_end (by rw [m178]; decide) FN)⟩
    simp only [uH, bh]
    rw [if_pos trivial, kk]
    simp only [bd, cE]
    rw [if_neg (by decide)]
  refine ⟨w, _, QQ, m179.symm, (show (0 : Int32) ≤ 1 ∧ (1 : Int32) ≤ 3 by decide), ?_, ?_, ?_, ?_, ?_, ?_, ?_, v3, ?_⟩
  · intro z; exact absurd (show (1 : Int32) = 0 from z) (by decide)
  · intro _
    have a1 : sF υ 403 = sF τ 403 := mf_F k3 (kK_f (by omega))
    have a2 : sG υ 404 = sG τ 404 := mf_G k3 (kK_f (by omega))
    have a3 : sI (mEnd μ') 185 0 = ty := by
      simp (disch := lia) only [mEnd, μ', sF_pi, sF_pl, sF_ai, sF_al, sG_pi, sG_pl, sG_ai, sG_al, sI_pi, sI_pl, sI_al, sI_ai1, sI_ai2, sJ_pi, sJ_pl, sJ_ai, sJ_al1, sJ_al2, Nat.reduceEqDiff, if_true, if_false, ne_eq, not_false_eq_true, ite_true, ite_false]
      rw [show (0 : Nat) = (0 : Int32).toNatClampNeg from rfl, sI_ai2]
    have a4 : sJ (mEnd μ') 186 0 = v := by
      simp (disch := lia) only [mEnd, μ', sF_pi, sF_pl, sF_ai, sF_al, sG_pi, sG_pl, sG_ai, sG_al, sI_pi, sI_pl, sI_al, sI_ai1, sI_ai2, sJ_pi, sJ_pl, sJ_ai, sJ_al1, sJ_al2, Nat.reduceEqDiff, if_true, if_false, ne_eq, not_false_eq_true, ite_true, ite_false]
      rw [show (0 : Nat) = (0 : Int32).toNatClampNeg from rfl, sJ_al2]
    have a5 : sF (mEnd μ') 187 = 1 := by simp only [mEnd, μ', sF_pi, sF_pl, sF_ai, sF_al, sG_pi, sG_pl, sG_ai, sG_al, sI_pi, sI_pl, sI_al, sI_ai1, sI_ai2, sJ_pi, sJ_pl, sJ_ai, sJ_al1, sJ_al2, Nat.reduceEqDiff, if_true, if_false, ne_eq, not_false_eq_true, ite_true, ite_false]
    simp only
    rw [a1, a2, a3, a4, a5]
    exact ⟨th, rfl⟩
  · intro z; exact absurd (show (2 : Int32) ≤ 1 from z) (by decide)
  · intro _
    have a1 : sF (mEnd μ') 183 = ln := by simp only [mEnd, μ', sF_pi, sF_pl, sF_ai, sF_al, sG_pi, sG_pl, sG_ai, sG_al, sI_pi, sI_pl, sI_al, sI_ai1, sI_ai2, sJ_pi, sJ_pl, sJ_ai, sJ_al1, sJ_al2, Nat.reduceEqDiff, if_true, if_false, ne_eq, not_false_eq_true, ite_true, ite_false]
    simp only
    rw [a1, mf_F k3 (kK_f (by omega))]; exact hl
  · have a1 : sF (mEnd μ') 184 = sF μ 180 := by simp only [mEnd, μ', sF_pi, sF_pl, sF_ai, sF_al, sG_pi, sG_pl, sG_ai, sG_al, sI_pi, sI_pl, sI_al, sI_ai1, sI_ai2, sJ_pi, sJ_pl, sJ_ai, sJ_al1, sJ_al2, Nat.reduceEqDiff, if_true, if_false, ne_eq, not_false_eq_true, ite_true, ite_false]
    have a2 : sF (mPop μ 0 b) 180 = sF μ 180 := by simp only [mPop, sF_pi, sF_pl, sF_ai, sF_al, sG_pi, sG_pl, sG_ai, sG_al, sI_pi, sI_pl, sI_al, sI_ai1, sI_ai2, sJ_pi, sJ_pl, sJ_ai, sJ_al1, sJ_al2, Nat.reduceEqDiff, if_true, if_false, ne_eq, not_false_eq_true, ite_true, ite_false]
    simp only
    rw [a1, mf_F k3 (kK_f (by omega)), ← a2]; exact fuel
  · refine mf_tr v1 (mf_mono frx (fun k hk => eX_f ?_))
    have := xR_f hk
    omega
  · refine mf_tr v2 (mf_mono fre (fun k hk => eM_f ?_))
    simp only [mR, inR, Bool.or_eq_false_iff, Bool.and_eq_false_iff, decide_eq_false_iff_not] at hk
    omega
  · have a1 : sF υ 524 = sF τ 524 := mf_F frx (eX_f (by omega))
    have a2 : sF (mEnd μ') 220 = sF (mPop μ 0 b) 220 := mf_F fre (eM_f (by omega))
    refine ⟨?_, ?_, ?_, fun k k0 k1 => ?_⟩
    · simp only; rw [a1, a2]; exact u1
    · simp only; rw [a1]; exact u2
    · simp only; rw [a1]; exact u3
    · simp only at k1 ⊢
      rw [a1] at k1
      rw [mf_I frx (eX_f (by omega)), mf_I fre (eM_f (by omega))]; exact u4 k k0 k1
