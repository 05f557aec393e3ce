/-! LAYER 2: calls are broken off down to a guard: pieces -/
theorem top_0 {w : WD} {xf : Int32 → List Int32} {σ : mS} {c : Int32} (X : XF w xf σ) (hc : c ∈ cX w) (h : xf c = []) : sI σ 326 c = -1 := by
  obtain ⟨fc, bl, s1, s2, _⟩ := X
  have := s2 c hc
  rw [h] at this
  exact this
theorem top_1 {w : WD} {xf : Int32 → List Int32} {σ : mS} {c f : Int32} {fl : List Int32} (X : XF w xf σ) (hc : c ∈ cX w) (h : xf c = f :: fl) : sI σ 326 c = f := by
  obtain ⟨fc, bl, s1, s2, _⟩ := X
  have := s2 c hc
  rw [h] at this
  exact this.1
def ltX (k : Nat) : Bool := inR 397 411 k || inR 520 522 k || inR 538 541 k
def ltM (k : Nat) : Bool := [16, 17, 42, 43].contains k || inR 188 190 k || inR 221 231 k
theorem ltX_f {k : Nat} (h : (k < 397 ∨ 411 < k) ∧ (k < 520 ∨ 522 < k) ∧ (k < 538 ∨ 541 < k)) : ltX k = false := by
  simp only [ltX, inR, Bool.or_eq_false_iff, Bool.and_eq_false_iff, decide_eq_false_iff_not]
  omega
theorem ltM_f {k : Nat} (h : (k < 16 ∨ (17 < k ∧ k < 42) ∨ (43 < k ∧ k < 188) ∨ (190 < k ∧ k < 221) ∨ 231 < k)) : ltM k = false := by
  simp only [ltM, inR, List.contains_cons, List.contains_nil, Bool.or_eq_false_iff, beq_eq_false_iff_ne, Bool.and_eq_false_iff, decide_eq_false_iff_not]
  (repeat' (first | exact trivial | omega | apply And.intro))
theorem ltX_p {σ τ : mS} (h : m_fr ltX σ τ) : m_fr ppX σ τ := mf_mono h (fun k hk => by
  simp only [ppX, inR, Bool.or_eq_false_iff, Bool.and_eq_false_iff, decide_eq_false_iff_not, beq_eq_false_iff_ne] at hk
  exact ltX_f (by omega))
theorem ltM_p {σ τ : mS} (h : m_fr ltM σ τ) : m_fr ppM σ τ := mf_mono h (fun k hk => by
  simp only [ppM, inR, List.contains_cons, List.contains_nil, Bool.or_eq_false_iff, beq_eq_false_iff_ne, Bool.and_eq_false_iff, decide_eq_false_iff_not] at hk
  exact ltM_f (by omega))
theorem vK_l {σ τ : mS} (h : m_fr vK σ τ) : m_fr ltX σ τ := mf_mono h (fun k hk => by
  simp only [ltX, inR, Bool.or_eq_false_iff, Bool.and_eq_false_iff, decide_eq_false_iff_not] at hk
  simp only [vK, List.contains_cons, List.contains_nil, Bool.or_eq_false_iff, beq_eq_false_iff_ne]
  (repeat' (first | exact trivial | omega | apply And.intro)))
theorem vM_l {σ τ : mS} (h : m_fr vM σ τ) : m_fr ltM σ τ := mf_mono h (fun k hk => by
  simp only [ltM, inR, List.contains_cons, List.contains_nil, Bool.or_eq_false_iff, beq_eq_false_iff_ne, Bool.and_eq_false_iff, decide_eq_false_iff_not] at hk
  simp only [vM, List.contains_cons, List.contains_nil, Bool.or_eq_false_iff, beq_eq_false_iff_ne]
  (repeat' (first | exact trivial | omega | apply And.intro)))
theorem xcs_lt {σ τ : mS} {g : Int32} (fr : m_fr ltX σ τ) : xcs σ τ g := xcs_pK fr (fun k hk => ltX_f (by omega))
theorem XF_lt {w : WD} {xf : Int32 → List Int32} {σ τ : mS} (X : XF w xf σ) (fr : m_fr ltX σ τ) : XF w xf τ := XF_fr X rfl fr (fun k hk => by simp only [kX] at hk; exact ltX_f (by omega))
/-- the machines stay while other fields change -/
theorem ME_lt {S : SR} {K : Int32 → Int32 → Int32 → Prop} {q : Int} {w : WD} {xf : Int32 → List Int32} {c d : Int32} {rest : PL2} {σ μ τ τm : mS} (H : ME S K q w xf c d rest σ μ) (fr : m_fr ltX σ τ) (frm : m_fr ltM μ τm) : ME S K q w xf c d rest τ τm := by
  have i : ∀ k, 141 ≤ k → k ≤ 187 → ∀ m, sI τm k m = sI μ k m := fun k a b m => mf_I frm (ltM_f (by omega))
  have ho := H.2.2.2.2.2.2.2.2.1
  have ks : kSum w τm = kSum w μ := by
    simp only [kSum]
    congr 1
    apply List.map_congr_left
    intro p _
    rw [i 166 (by omega) (by omega)]
  refine ME_pp H (ltX_p fr) (ltM_p frm) (XF_lt H.2.2.2.1 fr) (fun _ _ => rfl) (fun _ _ _ _ _ => xcs_lt fr) (fun k j _ _ hj => i _ (by omega) (by omega) _) (fun m _ _ => ⟨i _ (by omega) (by omega) _, mf_J frm (ltM_f (by omega))⟩) ?_
  rw [mf_F fr (ltX_f (by omega)), mf_F frm (ltM_f (by omega)), mf_F frm (ltM_f (by omega))]
  exact ho
theorem FL_lt {S : SR} {w : WD} {σ μ τ τm : mS} {bt k0 B0 n : Int32} {fl : List Int32} {ct : CT} (h : FL S w σ (mff μ) (sI μ 141) (sJ μ 142) bt k0 B0 fl n ct) (hk : kb k0 B0 n) (fr : m_fr ltX σ τ) (frm : m_fr ltM μ τm) : FL S w τ (mff τm) (sI τm 141) (sJ τm 142) bt k0 B0 fl n ct :=
  FL_cg h hk wle_rfl (fun _ _ => xcs_lt fr) (cds_fr fr (ltX_f (by omega)) (ltX_f (by omega)) (ltX_f (by omega))) (fun k j _ _ hj => mf_I frm (ltM_f (by omega))) (fun _ _ _ => ⟨mf_I frm (ltM_f (by omega)), mf_J frm (ltM_f (by omega))⟩)
theorem SV_lt {e : EV} {w : WD} {σ μ τ τm : mS} (V : SV e w σ μ) (fr : m_fr ltX σ τ) (frm : m_fr ltM μ τm) (h : sF τ 406 = 0) : SV e w τ τm := SV_pp V (ltX_p fr) (ltM_p frm) h
/-- frames are looked at from the top: those that are no guards go, on both sides -/
theorem unw_2 {e : EV} {w : WD} {c d : Int32} {rest : PL2} {μ : mS} {N : Nat} {T : ty_finish} {ty : Int32} {v : Int64} (hd : sF μ 172 = d) (d0 : 0 ≤ d) (d1 : d < 121) : ∀ (fl : List Int32) (xf : Int32 → List Int32) (σ : mS) (a b : Int32) (k k' : Nat), ME (eS e) (eK e) (eQ e) w xf c d rest σ (mPop μ a b) → SV e w σ (mPop μ a b) → xf c = fl → UN (eS e) w σ (mff μ) (sI μ 141) (sJ μ 142) (btO d) (sI μ 162 d) (sI μ 161 d) fl a → fl.length < k → fl.length < k' → a ≤ 200 → ∃ τ fl' a' b' xf', (∀ r0, xx6_unwind_b8 N r0 k c σ = xx6_unwind_b52 N r0 c τ) ∧ (∀ rm, mm_raise_8 N T rm k' ty v (a - 1) μ = mm_raise_39 N T rm ty v (a' - 1) μ) ∧ ME (eS e) (eK e) (eQ e) w xf' c d rest τ (mPop μ a' b') ∧ SV e w τ (mPop μ a' b') ∧ xf' c = fl' ∧ m_fr pK σ τ ∧ a' ≤ a ∧ b - a = b' - a' ∧ ((fl' = [] ∧ a' = sI μ 162 d) ∨ (∃ g fl'', fl' = g :: fl'' ∧ sI μ 162 d < a' ∧ (0 ≤ g ∧ g < 202) ∧ sI τ 355 g = 1 ∧ (sI μ 161 d ≤ mff μ (a' - 1) 5 ∧ mff μ (a' - 1) 5 ≤ sI μ 161 d + 2300 * (a' - 1 - sI μ 162 d)) ∧ FL (eS e) w τ (mff μ) (sI μ 141) (sJ μ 142) (btO d) (sI μ 162 d) (sI μ 161 d) fl'' (a' - 1) (ctO τ (mff μ) g (a' - 1)))) := by
  intro fl
  induction fl with
  | nil =>
    intro xf σ a b k k' H V hf hU hk hk' ha
    obtain ⟨k, rfl⟩ : ∃ j, k = j + 1 := ⟨k - 1, by simp at hk; omega⟩
    obtain ⟨k', rfl⟩ : ∃ j, k' = j + 1 := ⟨k' - 1, by simp at hk'; omega⟩
    have cc := ME_c H
    have t0 := top_0 H.2.2.2.1 cc.1 hf
    have ae : a = sI μ 162 d := hU
    have kb' := BC_kb H.2.2.2.2.2.1
    simp only [mPop, sF_pi, sF_pl, sF_ai, sF_al, sG_pi, sG_pl, sG_ai, sG_al, sI_pi, sI_pl, sI_al, sI_ai1, sI_ai2, sJ_pi, sJ_pl, sJ_ai, sJ_al1, sJ_al2, Nat.reduceEqDiff, if_true, if_false, ne_eq, not_false_eq_true, ite_true, ite_false] at kb'
    refine ⟨σ, [], a, b, xf, fun r0 => ?_, fun rm => ?_, H, V, hf, mf_rfl, by lia, rfl, .inl ⟨rfl, ae⟩⟩
    · simp (disch := lia) only [xx6_unwind_b8, lt, gd_in, if_pos, if_neg, ↓reduceIte, gd_z0, gd_z1, gd_tt, sF_fold, sG_fold, sI_fold, sJ_fold, t0]
    · simp (disch := lia) only [mm_raise_8, lt, gd_in, if_pos, if_neg, ↓reduceIte, gd_z0, gd_z1, gd_tt, sF_fold, sG_fold, sI_fold, sJ_fold, hd]
  | cons f fl ih =>
    intro xf σ a b k k' H V hf hU hk hk' ha
    obtain ⟨k, rfl⟩ : ∃ j, k = j + 1 := ⟨k - 1, by simp at hk; omega⟩
    obtain ⟨k', rfl⟩ : ∃ j, k' = j + 1 := ⟨k' - 1, by simp at hk'; omega⟩
    have cc := ME_c H
    have t0 := top_1 H.2.2.2.1 cc.1 hf
    obtain ⟨h1, h2, h3⟩ := hU
    have kb' := BC_kb H.2.2.2.2.2.1
    simp only [mPop, sF_pi, sF_pl, sF_ai, sF_al, sG_pi, sG_pl, sG_ai, sG_al, sI_pi, sI_pl, sI_al, sI_ai1, sI_ai2, sJ_pi, sJ_pl, sJ_ai, sJ_al1, sJ_al2, Nat.reduceEqDiff, if_true, if_false, ne_eq, not_false_eq_true, ite_true, ite_false] at kb'
    have f4 : sF (mPop μ a b) 154 = a := by simp only [mPop, sF_pi, sF_pl, sF_ai, sF_al, sG_pi, sG_pl, sG_ai, sG_al, sI_pi, sI_pl, sI_al, sI_ai1, sI_ai2, sJ_pi, sJ_pl, sJ_ai, sJ_al1, sJ_al2, Nat.reduceEqDiff, if_true, if_false, ne_eq, not_false_eq_true, ite_true, ite_false]
    have f5 : sF (mPop μ a b) 155 = b := by simp only [mPop, sF_pi, sF_pl, sF_ai, sF_al, sG_pi, sG_pl, sG_ai, sG_al, sI_pi, sI_pl, sI_al, sI_ai1, sI_ai2, sJ_pi, sJ_pl, sJ_ai, sJ_al1, sJ_al2, Nat.reduceEqDiff, if_true, if_false, ne_eq, not_false_eq_true, ite_true, ite_false]
    rcases h3 with ⟨a1, a2, a3⟩ | ⟨a1, a1', a2, a3, a4⟩
    · -- no guard: it goes
      obtain ⟨τ, p1, p2, p3, p4, p5⟩ := pop_2 (N := N) H V hf (by
        rw [f4]
        have : sI (mPop μ a b) 162 d = sI μ 162 d := by simp only [mPop, sF_pi, sF_pl, sF_ai, sF_al, sG_pi, sG_pl, sG_ai, sG_al, sI_pi, sI_pl, sI_al, sI_ai1, sI_ai2, sJ_pi, sJ_pl, sJ_ai, sJ_al1, sJ_al2, Nat.reduceEqDiff, if_true, if_false, ne_eq, not_false_eq_true, ite_true, ite_false]
        rw [this]; exact h1)
      rw [f4, f5, mPop_2] at p2 p3
      have a2' : sI μ 144 (a - 1) = 0 := a2
      have U2 := UN_cg (τ := τ) (ff' := mff μ) (pt' := sI μ 141) (pv' := sJ μ 142) (P := 2147483647) a3 ⟨kb'.1, by lia, kb'.2.2.1, kb'.2.2.2.1⟩ wle_rfl (fun g _ => p5 g) (cds_fr p4 rfl rfl rfl) (fun _ _ _ _ _ => rfl) (fun _ _ _ => ⟨rfl, rfl⟩) (fun _ _ _ => by lia)
      obtain ⟨υ, fl', a', b', xf', q1, q2, q3, q4, q5, q6, q7, q8, q9⟩ := ih (fU xf c fl) τ (a - 1) (b - 1) k k' p2 p3 fU_s U2 (by simp at hk; omega) (by simp at hk'; omega) (by lia)
      refine ⟨υ, fl', a', b', xf', fun r0 => ?_, fun rm => ?_, q3, q4, q5, mf_tr p4 q6, by lia, by lia, q9⟩
      · simp (disch := lia) only [xx6_unwind_b8, lt, gd_in, if_pos, if_neg, ↓reduceIte, gd_z0, gd_z1, gd_tt, sF_fold, sG_fold, sI_fold, sJ_fold, t0, p1, bd]
        exact q1 r0
      · have e1 : a - 1 + -1 = a - 1 - 1 := by lia
        simp (disch := lia) only [mm_raise_8, lt, gd_in, if_pos, if_neg, ↓reduceIte, gd_z0, gd_z1, gd_tt, sF_fold, sG_fold, sI_fold, sJ_fold, hd, e1]
        exact q2 rm
    · refine ⟨σ, f :: fl, a, b, xf, fun r0 => ?_, fun rm => ?_, H, V, hf, mf_rfl, by lia, rfl, .inr ⟨f, fl, rfl, h1, h2, a1, a3, a4⟩⟩
      · simp (disch := lia) only [xx6_unwind_b8, lt, gd_in, if_pos, if_neg, ↓reduceIte, gd_z0, gd_z1, gd_tt, sF_fold, sG_fold, sI_fold, sJ_fold, t0]
      · have a2' : sI μ 144 (a - 1) = 1 := a2
        simp (disch := lia) only [mm_raise_8, lt, gd_in, if_pos, if_neg, ↓reduceIte, gd_z0, gd_z1, gd_tt, sF_fold, sG_fold, sI_fold, sJ_fold, hd]
/-- the texts of messages that both sides have -/
theorem tx_2 : xtx 2 = mtx 8 := by decide +kernel
