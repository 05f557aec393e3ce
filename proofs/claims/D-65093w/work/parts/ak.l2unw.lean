/-! LAYER 2: a run ends well; calls are broken off down to a guard -/
theorem res_lp {N : Nat} {T : ty_finish} {μ : mS} {n : Int32} (n0 : 0 ≤ n) (n1 : n ≤ 100) (hn : sF μ 190 = n) (tt : ∀ k, 0 ≤ k → k < n → 0 ≤ sI μ 188 k ∧ sI μ 188 k ≤ 8) (j : Nat) (k : Int32) (k0 : 0 ≤ k) (k1 : k ≤ n) (hj : (n.toInt - k.toInt).toNat < j) : ∀ τ : mS, m_fr (fun k => [185, 186].contains k) μ τ → (∀ i, 0 ≤ i → i < k → sI τ 185 i = sI μ 188 i ∧ sJ τ 186 i = sJ μ 189 i) → ∃ υ, mm_finish_173 N T j k τ = some υ ∧ m_fr (fun k => [143, 185, 186].contains k) μ υ ∧ (∀ i, 0 ≤ i → i < n → sI υ 185 i = sI μ 188 i ∧ sJ υ 186 i = sJ μ 189 i) := by
  refine loop_up (lo := 0) (m := n) (fun j k => ∀ τ : mS, m_fr (fun k => [185, 186].contains k) μ τ → (∀ i, 0 ≤ i → i < k → sI τ 185 i = sI μ 188 i ∧ sJ τ 186 i = sJ μ 189 i) → ∃ υ, mm_finish_173 N T j k τ = some υ ∧ m_fr (fun k => [143, 185, 186].contains k) μ υ ∧ (∀ i, 0 ≤ i → i < n → sI υ 185 i = sI μ 188 i ∧ sJ υ 186 i = sJ μ 189 i)) ?_ j k k0 k1 hj
  clear hj k0 k1 k j
  intro j k k0 k1 ih τ fr hh
  have e190 : sF τ 190 = n := by rw [mf_F fr rfl]; exact hn
  by_cases c : n ≤ k
  · have : k = n := by lia
    subst this
    simp (disch := lia) only [mm_finish_173, lt, gd_in, if_pos, if_neg, ↓reduceIte, gd_z0, gd_z1, gd_tt, sF_fold, sG_fold, sI_fold, sJ_fold, e190]
    refine ⟨_, rfl, mf_pi (mf_mono fr (fun k hk => by
      simp only [List.contains_cons, List.contains_nil, Bool.or_eq_false_iff, beq_eq_false_iff_ne] at hk ⊢
      (repeat' (first | exact trivial | omega | apply And.intro)))) rfl, fun i i0 i1 => ?_⟩
    simp only [sF_pi, sF_pl, sF_ai, sF_al, sG_pi, sG_pl, sG_ai, sG_al, sI_pi, sI_pl, sI_al, sI_ai1, sI_ai2, sJ_pi, sJ_pl, sJ_ai, sJ_al1, sJ_al2, Nat.reduceEqDiff, if_true, if_false, ne_eq, not_false_eq_true, ite_true, ite_false]
    exact hh i i0 i1
  · have t := tt k k0 (by lia)
    have i188 : sI τ 188 k = sI μ 188 k := mf_I fr rfl
    have j189 : sJ τ 189 k = sJ μ 189 k := mf_J fr rfl
    have nb : vp_nar .byte (sI μ 188 k) = sI μ 188 k := nar_tg t.1 t.2
    simp (disch := lia) only [mm_finish_173, lt, gd_in, if_pos, if_neg, ↓reduceIte, gd_z0, gd_z1, gd_tt, sF_fold, sG_fold, sI_fold, sJ_fold, sF_pi, sF_pl, sF_ai, sF_al, sG_pi, sG_pl, sG_ai, sG_al, sI_pi, sI_pl, sI_al, sI_ai1, sI_ai2, sJ_pi, sJ_pl, sJ_ai, sJ_al1, sJ_al2, Nat.reduceEqDiff, if_true, if_false, ne_eq, not_false_eq_true, ite_true, ite_false, e190, i188, j189, nb]
    refine ih (by lia) _ (mf_al (mf_ai fr rfl) rfl) (fun i i0 i1 => ?_)
    simp (disch := lia) only [sF_pi, sF_pl, sF_ai, sF_al, sG_pi, sG_pl, sG_ai, sG_al, sI_pi, sI_pl, sI_al, sI_ai1, sI_ai2, sJ_pi, sJ_pl, sJ_ai, sJ_al1, sJ_al2, Nat.reduceEqDiff, if_true, if_false, ne_eq, not_false_eq_true, ite_true, ite_false, sI_ai k0 i0, sJ_al k0 i0, true_and, false_and]
    by_cases q : i = k
    · subst q; rw [if_pos rfl, if_pos rfl]; exact ⟨rfl, rfl⟩
    · rw [if_neg q, if_neg q]; exact hh i i0 (by lia)
/-- the run ends with what is given -/
theorem over_2 {e : EV} (E : EVok e) {w : WD} {xf : Int32 → List Int32} {σ μ : mS} {gn : Int32} (H : ME (eS e) (eK e) (eQ e) w xf 0 120 [] σ μ) (V : SV e w σ μ) (hf : xf 0 = []) (hc : sF μ 154 = sI μ 162 120) (gv : GV w σ μ gn) (g1 : gn ≤ 100) (T : ty_finish) (to wn : Int32) : ∃ rx μ', mb_finish (eN e) T μ to wn 5 = some μ' ∧ ∀ M, XL e M (md_pi σ 406 1) rx ∧ XB e M (md_pi σ 406 1) rx ∧ MF e M μ' rx := by
  have hN := EV_N E
  obtain ⟨gv1, gv2, gv3, gv4, gv5⟩ := gv
  have c162 : sI μ 162 120 = 0 := H.2.2.2.2.2.1.2.2.1
  have fuel := H.2.2.2.2.2.2.2.2.2.1
  obtain ⟨v1, v2, v3, ⟨u1, u2, u3, u4⟩, v5, v6, v7⟩ := V
  let μ1 := md_pi (md_pi (md_pi μ 178 1) 179 0) 187 gn
  have q190 : sF μ1 190 = gn := by simp only [μ1, sF_pi, sF_pl, sF_ai, sF_al, sG_pi, sG_pl, sG_ai, sG_al, sI_pi, sI_pl, sI_al, sI_ai1, sI_ai2, sJ_pi, sJ_pl, sJ_ai, sJ_al1, sJ_al2, Nat.reduceEqDiff, if_true, if_false, ne_eq, not_false_eq_true, ite_true, ite_false]; exact gv2
  have f1 : m_fr (fun k => [178, 179, 187].contains k) μ μ1 := mf_pi (mf_pi (mf_pi mf_rfl rfl) rfl) rfl
  obtain ⟨μ', b1, b2, b3⟩ := res_lp (N := eN e) (T := T) (μ := μ1) gv3 g1 q190 (fun k k0 k1 => by
    have := VV_tag (gv5 k k0 k1)
    have q : sI μ1 188 k = sI μ 188 k := mf_I f1 rfl
    rw [q]
    exact ⟨this.2.2.1, by lia⟩) (eN e) 0 (by decide) gv3 (big_d hN) μ1 mf_rfl (fun i i0 i1 => by exfalso; lia)
  have fe : m_fr eM μ (mEnd μ') := mf_tr (mf_tr (mf_mono f1 (fun k hk => by
    simp only [eM, List.contains_cons, List.contains_nil, Bool.or_eq_false_iff, beq_eq_false_iff_ne] at hk ⊢
    (repeat' (first | exact trivial | omega | apply And.intro)))) (mf_mono b2 (fun k hk => by
    simp only [eM, List.contains_cons, List.contains_nil, Bool.or_eq_false_iff, beq_eq_false_iff_ne] at hk ⊢
    (repeat' (first | exact trivial | omega | apply And.intro))))) mEnd_fr
  have f178 : sF μ' 178 = 1 := by rw [mf_F b2 rfl]; simp only [μ1, sF_pi, sF_pl, sF_ai, sF_al, sG_pi, sG_pl, sG_ai, sG_al, sI_pi, sI_pl, sI_al, sI_ai1, sI_ai2, sJ_pi, sJ_pl, sJ_ai, sJ_al1, sJ_al2, Nat.reduceEqDiff, if_true, if_false, ne_eq, not_false_eq_true, ite_true, ite_false]
  have f179 : sF μ' 179 = 0 := by rw [mf_F b2 rfl]; simp only [μ1, sF_pi, sF_pl, sF_ai, sF_al, sG_pi, sG_pl, sG_ai, sG_al, sI_pi, sI_pl, sI_al, sI_ai1, sI_ai2, sJ_pi, sJ_pl, sJ_ai, sJ_al1, sJ_al2, Nat.reduceEqDiff, if_true, if_false, ne_eq, not_false_eq_true, ite_true, ite_false]
  have fx : m_fr eX σ (md_ai (md_pi σ 406 1) 323 0 3) := mf_ai (mf_pi mf_rfl rfl) rfl
  have fx2 : m_fr (fun k => [323, 406].contains k) σ (md_ai (md_pi σ 406 1) 323 0 3) := mf_ai (mf_pi mf_rfl rfl) rfl
  have ov : sF (md_pi σ 406 1) 406 ≠ 0 := by simp only [sF_pi, sF_pl, sF_ai, sF_al, sG_pi, sG_pl, sG_ai, sG_al, sI_pi, sI_pl, sI_al, sI_ai1, sI_ai2, sJ_pi, sJ_pl, sJ_ai, sJ_al1, sJ_al2, Nat.reduceEqDiff, if_true, if_false, ne_eq, not_false_eq_true, ite_true, ite_false]; decide
  have e0 : fE xf [0] = xf := by
    funext x
    simp only [fE, List.mem_singleton]
    by_cases q : x = 0
    · rw [if_pos q, q, hf]
    · rw [if_neg q]
  have X' : XF w (fE xf ((0 : Int32) :: ([] : PL2).map Prod.fst)) (md_ai (md_pi σ 406 1) 323 0 3) := by
    have : fE xf ((0 : Int32) :: ([] : PL2).map Prod.fst) = xf := e0
    rw [this]
    exact XF_st H.2.2.2.1 (mf_mono fx2 (fun k hk => by
      simp only [stX, inR, List.contains_cons, List.contains_nil, Bool.or_eq_false_iff, beq_eq_false_iff_ne, Bool.and_eq_false_iff, decide_eq_false_iff_not] at hk ⊢
      (repeat' (first | exact trivial | omega | apply And.intro))))
  have LKx : LK σ (mff μ) (sI μ 162 120) (xf 0) (sF μ 154) := by rw [hf]; exact hc
  have z154 : sF μ 154 = 0 := by rw [hc, c162]
  have QQ : QU (eS e) (eK e) (eQ e) w (fE xf ((0 : Int32) :: ([] : PL2).map Prod.fst)) (md_ai (md_pi σ 406 1) 323 0 3) (mEnd μ') := by
    refine QU_of H LKx X' fx fe ?_ (fun x x0 xn => ?_) (fun x x0 xn => ?_) ?_ (fun x x0 x1 => ?_)
    · have : lsum xf ((0 : Int32) :: ([] : PL2).map Prod.fst) + ([] : PL2).length = 0 := by simp [lsum, hf]
      rw [this]
      simp only [sF_pi, sF_pl, sF_ai, sF_al, sG_pi, sG_pl, sG_ai, sG_al, sI_pi, sI_pl, sI_al, sI_ai1, sI_ai2, sJ_pi, sJ_pl, sJ_ai, sJ_al1, sJ_al2, Nat.reduceEqDiff, if_true, if_false, ne_eq, not_false_eq_true, ite_true, ite_false]
      show sF σ 358 = sF σ 358 - 0
      lia
    · rw [if_neg (fun q => xn (by simpa using q)), show (0 : Nat) = (0 : Int32).toNatClampNeg from rfl, sI_ai (by decide) x0, if_neg (fun q => xn q.2)]
      simp only [sF_pi, sF_pl, sF_ai, sF_al, sG_pi, sG_pl, sG_ai, sG_al, sI_pi, sI_pl, sI_al, sI_ai1, sI_ai2, sJ_pi, sJ_pl, sJ_ai, sJ_al1, sJ_al2, Nat.reduceEqDiff, if_true, if_false, ne_eq, not_false_eq_true, ite_true, ite_false]
    · rw [if_neg (fun q => xn (by simpa using q))]
      simp (disch := decide) only [sF_pi, sF_pl, sF_ai, sF_al, sG_pi, sG_pl, sG_ai, sG_al, sI_pi, sI_pl, sI_al, sI_ai1, sI_ai2, sJ_pi, sJ_pl, sJ_ai, sJ_al1, sJ_al2, Nat.reduceEqDiff, if_true, if_false, ne_eq, not_false_eq_true, ite_true, ite_false]
    · have : sF (mEnd μ') 155 = sF μ' 155 := by simp only [mEnd, sF_pi, sF_pl, sF_ai, sF_al, sG_pi, sG_pl, sG_ai, sG_al, sI_pi, sI_pl, sI_al, sI_ai1, sI_ai2, sJ_pi, sJ_pl, sJ_ai, sJ_al1, sJ_al2, Nat.reduceEqDiff, if_true, if_false, ne_eq, not_false_eq_true, ite_true, ite_false]
      rw [this, mf_F b2 rfl, z154]
      simp only [μ1, sF_pi, sF_pl, sF_ai, sF_al, sG_pi, sG_pl, sG_ai, sG_al, sI_pi, sI_pl, sI_al, sI_ai1, sI_ai2, sJ_pi, sJ_pl, sJ_ai, sJ_al1, sJ_al2, Nat.reduceEqDiff, if_true, if_false, ne_eq, not_false_eq_true, ite_true, ite_false]
      lia
    · rw [if_neg (fun q => by have : x = 120 := by simpa using q
                              lia)]
      have : sI (mEnd μ') 156 x = sI μ' 156 x := by
        simp only [mEnd, sF_pi, sF_pl, sF_ai, sF_al, sG_pi, sG_pl, sG_ai, sG_al, sI_pi, sI_pl, sI_al, sI_ai1, sI_ai2, sJ_pi, sJ_pl, sJ_ai, sJ_al1, sJ_al2, Nat.reduceEqDiff, if_true, if_false, ne_eq, not_false_eq_true, ite_true, ite_false]
        rw [show (120 : Nat) = (120 : Int32).toNatClampNeg from rfl, sI_ai (by decide) x0, if_neg (fun q => by lia)]
        simp only [sF_pi, sF_pl, sF_ai, sF_al, sG_pi, sG_pl, sG_ai, sG_al, sI_pi, sI_pl, sI_al, sI_ai1, sI_ai2, sJ_pi, sJ_pl, sJ_ai, sJ_al1, sJ_al2, Nat.reduceEqDiff, if_true, if_false, ne_eq, not_false_eq_true, ite_true, ite_false]
      rw [this, mf_I b2 rfl]; simp only [μ1, sF_pi, sF_pl, sF_ai, sF_al, sG_pi, sG_pl, sG_ai, sG_al, sI_pi, sI_pl, sI_al, sI_ai1, sI_ai2, sJ_pi, sJ_pl, sJ_ai, sJ_al1, sJ_al2, Nat.reduceEqDiff, if_true, if_false, ne_eq, not_false_eq_true, ite_true, ite_false]
  have f402 : sF (md_ai (md_pi σ 406 1) 323 0 3) 402 = gn := by simp only [sF_pi, sF_pl, sF_ai, sF_al, sG_pi, sG_pl, sG_ai, sG_al, sI_pi, sI_pl, sI_al, sI_ai1, sI_ai2, sJ_pi, sJ_pl, sJ_ai, sJ_al1, sJ_al2, Nat.reduceEqDiff, if_true, if_false, ne_eq, not_false_eq_true, ite_true, ite_false]; exact gv1
  have f187 : sF (mEnd μ') 187 = gn := by
    have : sF (mEnd μ') 187 = sF μ' 187 := by simp only [mEnd, sF_pi, sF_pl, sF_ai, sF_al, sG_pi, sG_pl, sG_ai, sG_al, sI_pi, sI_pl, sI_al, sI_ai1, sI_ai2, sJ_pi, sJ_pl, sJ_ai, sJ_al1, sJ_al2, Nat.reduceEqDiff, if_true, if_false, ne_eq, not_false_eq_true, ite_true, ite_false]
    rw [this, mf_F b2 rfl]; simp only [μ1, sF_pi, sF_pl, sF_ai, sF_al, sG_pi, sG_pl, sG_ai, sG_al, sI_pi, sI_pl, sI_al, sI_ai1, sI_ai2, sJ_pi, sJ_pl, sJ_ai, sJ_al1, sJ_al2, Nat.reduceEqDiff, if_true, if_false, ne_eq, not_false_eq_true, ite_true, ite_false]
  suffices FN : FIN e (0, md_ai (md_pi σ 406 1) 323 0 3) (sF μ' 179, mEnd μ') by
    refine ⟨(0, md_ai (md_pi σ 406 1) 323 0 3), μ', ?_, fun M => ⟨XL_over ov, XB_over ov, MT_F (MT_end (by rw [f178]; decide) FN)⟩⟩
    have : sF μ 190 ≤ 100 := by rw [gv2]; exact g1
    simp (disch := lia) only [mb_finish, lt, gd_in, if_pos, if_neg, ↓reduceIte, gd_z0, gd_z1, gd_tt, sF_fold, sG_fold, sI_fold, sJ_fold, sF_pi, sF_pl, sF_ai, sF_al, sG_pi, sG_pl, sG_ai, sG_al, sI_pi, sI_pl, sI_al, sI_ai1, sI_ai2, sJ_pi, sJ_pl, sJ_ai, sJ_al1, sJ_al2, Nat.reduceEqDiff, if_true, if_false, ne_eq, not_false_eq_true, ite_true, ite_false, gv2]
    exact b1
  refine ⟨w, _, QQ, ?_, (show (0 : Int32) ≤ 0 ∧ (0 : Int32) ≤ 3 by decide), ?_, ?_, ?_, ?_, ?_, ?_, ?_, v3, ?_⟩
  · exact f179.symm
  · intro _
    refine ⟨by rw [f402, f187], by rw [f402]; exact gv3, by rw [f402]; exact g1, fun k k0 k1 => ?_, ?_⟩
    · rw [f402] at k1
      have a1 : sI (md_ai (md_pi σ 406 1) 323 0 3) 400 k = sI σ 400 k := mf_I fx2 rfl
      have a2 : sJ (md_ai (md_pi σ 406 1) 323 0 3) 401 k = sJ σ 401 k := mf_J fx2 rfl
      have a3 : sI (mEnd μ') 185 k = sI μ' 185 k := by simp (disch := lia) only [mEnd, sF_pi, sF_pl, sF_ai, sF_al, sG_pi, sG_pl, sG_ai, sG_al, sI_pi, sI_pl, sI_al, sI_ai1, sI_ai2, sJ_pi, sJ_pl, sJ_ai, sJ_al1, sJ_al2, Nat.reduceEqDiff, if_true, if_false, ne_eq, not_false_eq_true, ite_true, ite_false]
      have a4 : sJ (mEnd μ') 186 k = sJ μ' 186 k := by simp (disch := lia) only [mEnd, sF_pi, sF_pl, sF_ai, sF_al, sG_pi, sG_pl, sG_ai, sG_al, sI_pi, sI_pl, sI_al, sI_ai1, sI_ai2, sJ_pi, sJ_pl, sJ_ai, sJ_al1, sJ_al2, Nat.reduceEqDiff, if_true, if_false, ne_eq, not_false_eq_true, ite_true, ite_false]
      have a5 : sI μ1 188 k = sI μ 188 k := mf_I f1 rfl
      have a6 : sJ μ1 189 k = sJ μ 189 k := mf_J f1 rfl
      simp only
      rw [a1, a2, a3, a4, (b3 k k0 k1).1, (b3 k k0 k1).2, a5, a6]
      exact gv5 k k0 k1
    · have : sF (mEnd μ') 183 = sF μ' 181 := by simp only [mEnd, sF_pi, sF_pl, sF_ai, sF_al, sG_pi, sG_pl, sG_ai, sG_al, sI_pi, sI_pl, sI_al, sI_ai1, sI_ai2, sJ_pi, sJ_pl, sJ_ai, sJ_al1, sJ_al2, Nat.reduceEqDiff, if_true, if_false, ne_eq, not_false_eq_true, ite_true, ite_false]
      simp only
      rw [this, mf_F b2 rfl]; simp only [μ1, sF_pi, sF_pl, sF_ai, sF_al, sG_pi, sG_pl, sG_ai, sG_al, sI_pi, sI_pl, sI_al, sI_ai1, sI_ai2, sJ_pi, sJ_pl, sJ_ai, sJ_al1, sJ_al2, Nat.reduceEqDiff, if_true, if_false, ne_eq, not_false_eq_true, ite_true, ite_false]; exact v6
  · intro z; exact absurd (show (0 : Int32) = 1 from z) (by decide)
  · intro z; exact absurd (show (2 : Int32) ≤ 0 from z) (by decide)
  · intro z; exact absurd rfl z
  · have a1 : sF (mEnd μ') 184 = sF μ' 180 := by simp only [mEnd, sF_pi, sF_pl, sF_ai, sF_al, sG_pi, sG_pl, sG_ai, sG_al, sI_pi, sI_pl, sI_al, sI_ai1, sI_ai2, sJ_pi, sJ_pl, sJ_ai, sJ_al1, sJ_al2, Nat.reduceEqDiff, if_true, if_false, ne_eq, not_false_eq_true, ite_true, ite_false]
    simp only
    rw [a1, mf_F b2 rfl]; simp only [μ1, sF_pi, sF_pl, sF_ai, sF_al, sG_pi, sG_pl, sG_ai, sG_al, sI_pi, sI_pl, sI_al, sI_ai1, sI_ai2, sJ_pi, sJ_pl, sJ_ai, sJ_al1, sJ_al2, Nat.reduceEqDiff, if_true, if_false, ne_eq, not_false_eq_true, ite_true, ite_false]; exact fuel
  · refine mf_tr v1 (mf_mono fx (fun k hk => eX_f ?_))
    have := xR_f hk
    omega
  · refine mf_tr v2 (mf_mono fe (fun k hk => eM_f ?_))
    simp only [mR, inR, Bool.or_eq_false_iff, Bool.and_eq_false_iff, decide_eq_false_iff_not] at hk
    omega
  · have a1 : sF (md_ai (md_pi σ 406 1) 323 0 3) 524 = sF σ 524 := mf_F fx2 rfl
    have a2 : sF (mEnd μ') 220 = sF μ 220 := mf_F fe (eM_f (by omega))
    refine ⟨?_, ?_, ?_, fun k k0 k1 => ?_⟩
    · simp only; rw [a1, a2]; exact u1
    · simp only; rw [a1]; exact u2
    · simp only; rw [a1]; exact u3
    · simp only at k1 ⊢
      rw [a1] at k1
      rw [mf_I fx2 rfl, mf_I fe (eM_f (by omega))]; exact u4 k k0 k1
/-- the reference's calls counted down -/
def mPop (μ : mS) (a b : Int32) : mS := md_pi (md_pi μ 155 b) 154 a
theorem mPop_2 {μ : mS} {a b a' b' : Int32} : md_pi (md_pi (mPop μ a b) 154 a') 155 b' = mPop μ a' b' := by
  simp only [mPop, md_pi]
  congr 1
  funext k
  by_cases h4 : k = 154
  · subst h4; simp [upd_at]
  · by_cases h5 : k = 155
    · subst h5; simp [upd_at]
    · simp [upd_at, h4, h5]
theorem mPop_0 {μ : mS} : mPop μ (sF μ 154) (sF μ 155) = μ := by
  simp only [mPop, md_pi, sF]
  obtain ⟨a, b, c, d⟩ := μ
  simp only
  congr 1
  funext k
  by_cases h4 : k = 154
  · subst h4; simp [upd_at]
  · by_cases h5 : k = 155
    · subst h5; simp [upd_at]
    · simp [upd_at, h4, h5]
