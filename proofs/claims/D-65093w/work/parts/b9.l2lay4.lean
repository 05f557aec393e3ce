/-! LAYER 2: what waits is laid together: the loop -/
def lyK (k : Nat) : Bool := [163, 165, 173, 174, 175, 176, 177].contains k
theorem lyK_f {k : Nat} (h : (k < 163 ∨ 177 < k) ∨ k = 164 ∨ (165 < k ∧ k < 173)) : lyK k = false := by
  simp only [lyK, List.contains_cons, List.contains_nil, Bool.or_eq_false_iff, beq_eq_false_iff_ne]
  (repeat' (first | exact trivial | omega | apply And.intro))
theorem wts_eq {μ τ : mS} (fr : m_fr lyK μ τ) : wts τ = wts μ := by
  funext d
  simp only [wts]
  rw [mf_I fr (lyK_f (by omega)), mf_I fr (lyK_f (by omega)), mf_I fr (lyK_f (by omega))]
theorem tk_ly {σ τ : mS} (h : m_fr tkM σ τ) : m_fr lyK σ τ := mf_mono h (fun k hk => by
  simp only [tkM, lyK, List.contains_cons, List.contains_nil, Bool.or_eq_false_iff, beq_eq_false_iff_ne] at hk ⊢
  (repeat' (first | exact trivial | omega | apply And.intro)))
theorem tr_ly {σ τ : mS} (h : m_fr trM σ τ) : m_fr lyK σ τ := mf_mono h (fun k hk => by
  simp only [trM, lyK, List.contains_cons, List.contains_nil, Bool.or_eq_false_iff, beq_eq_false_iff_ne] at hk ⊢
  (repeat' (first | exact trivial | omega | apply And.intro)))
theorem IV_fr {P : Nat → Bool} {μ τ υ : mS} {L : List Int32} {v a : Int32} (I : IV μ τ L v a) (fr : m_fr P τ υ) (p1 : P 163 = false) (p2 : P 173 = false) (p3 : P 174 = false) : IV μ υ L v a := by
  obtain ⟨C, B, D, S⟩ := I
  have e : sI υ 163 = sI τ 163 := by funext x; exact mf_I fr p1
  refine ⟨by rw [e]; exact C, B, fun d wd sd i i0 i1 => ?_, S⟩
  rw [e, mf_I fr p2, mf_J fr p3]
  exact D d wd sd i i0 i1
theorem IR_fr {P : Nat → Bool} {μ τ υ : mS} {L : List Int32} {v a : Int32} (I : IR μ τ L v a) (fr : m_fr P τ υ) (p1 : P 165 = false) (p2 : P 176 = false) : IR μ υ L v a := by
  obtain ⟨C, B, D, S⟩ := I
  have e : sI υ 165 = sI τ 165 := by funext x; exact mf_I fr p1
  refine ⟨by rw [e]; exact C, B, fun d wd sd i i0 i1 => ?_, S⟩
  rw [e, mf_I fr p2]
  exact D d wd sd i i0 i1
def lms (a r : Int32) : Int := (500000 - a.toInt) + (5000 - r.toInt)
theorem lt_main {N : Nat} (hN : BIG ≤ N) {μ : mS} {L : List Int32} (K : KL μ) (B : bZ μ) (tg : ∀ d, wts μ d → ∀ i, 0 ≤ i → i < sI μ 164 d → 0 ≤ kpt μ d i ∧ kpt μ d i ≤ 8) (nd : L.Nodup) (hL : ∀ d, wts μ d → d ∈ L) : ∀ (m n : Nat) (τ : mS) (v a v2 a2 : Int32), lms a a2 ≤ m → m < n → m_fr lyK μ τ → IV μ τ L v a → IR μ τ L v2 a2 → ∃ υ V A V2 A2, mm_layTogether_9 N n v v2 a a2 τ = some υ ∧ m_fr lyK μ υ ∧ IV μ υ L V A ∧ IR μ υ L V2 A2 ∧ (∀ d, wts μ d → 0 < sI μ 164 d → sI υ 163 d ≤ A) ∧ (∀ d, wts μ d → 0 < sI μ 166 d → sI υ 165 d ≤ A2) ∧ sF υ 175 = V ∧ sF υ 177 = V2
  | m, 0, _, _, _, _, _, _, h, _, _, _ => absurd h (by omega)
  | m, n + 1, τ, v, a, v2, a2, hm, hn, fr, I, J => by
    have ew := wts_eq fr
    have Bτ : bZ τ := fun d d0 d1 => by
      rw [mf_I fr (lyK_f (by omega)), mf_I fr (lyK_f (by omega)), mf_I fr (lyK_f (by omega))]
      exact B d d0 d1
    obtain ⟨v5, v6, f1, f2, f3⟩ := lt_find hN (r9 := mm_layTogether_9 N n) Bτ (v1 := v) (v2 := v2) (v3 := a) (v4 := a2)
    rw [ew] at f2 f3
    have e164 : ∀ x, sI τ 164 x = sI μ 164 x := fun x => mf_I fr (lyK_f (by omega))
    have e166 : ∀ x, sI τ 166 x = sI μ 166 x := fun x => mf_I fr (lyK_f (by omega))
    have am1 : -1 ≤ a := I.1.1.1
    have am2 : -1 ≤ a2 := J.1.1.1
    -- the values
    obtain ⟨τ1, w1, x1, q1, fr1, I1, pr1⟩ : ∃ τ1 w1 x1, ltE N (mm_layTogether_9 N n) v v2 a a2 v5 v6 τ = mm_layTogether_232 N (mm_layTogether_9 N n) w1 v2 x1 a2 v5 v6 τ1 ∧ m_fr tkM τ τ1 ∧ IV μ τ1 L w1 x1 ∧ ((v5 = -1 ∧ τ1 = τ ∧ x1 = a) ∨ (0 ≤ v5 ∧ a < x1)) := by
      rcases f2 with ⟨h1, h2⟩ | ⟨h1, h2, h3, h4, h5⟩
      · refine ⟨τ, v, a, ?_, mf_rfl, I, .inl ⟨h1, rfl, rfl⟩⟩
        rw [ltE, if_pos (by rw [h1]; decide)]
      · obtain ⟨υ, w1, x1, y1, y2, y3, y4⟩ := V_step hN (r9 := mm_layTogether_9 N n) (v2 := v2) (v4 := a2) (v6 := v6) K tg nd hL I e164 h1.1 h1.2 h2 h3 h4 h5
        refine ⟨υ, w1, x1, ?_, y2, y3, .inr ⟨h1.1, y4⟩⟩
        rw [ltE, if_neg (Int32.not_lt.mpr h1.1), gd_in (by decide) h1.1 (Int32.lt_trans h1.2 (by decide))]
        exact y1
    have J1 : IR μ τ1 L v2 a2 := IR_fr J fr1 rfl rfl
    have e165 : ∀ x, sI τ1 165 x = sI τ 165 x := fun x => mf_I fr1 rfl
    have e166' : ∀ x, sI τ1 166 x = sI μ 166 x := fun x => by rw [mf_I fr1 rfl]; exact e166 x
    -- the rows
    obtain ⟨τ2, w2, x2, q2, fr2, J2, pr2⟩ : ∃ τ2 w2 x2, mm_layTogether_232 N (mm_layTogether_9 N n) w1 v2 x1 a2 v5 v6 τ1 = mm_layTogether_310 N (mm_layTogether_9 N n) w1 w2 x1 x2 v5 v6 τ2 ∧ m_fr trM τ1 τ2 ∧ IR μ τ2 L w2 x2 ∧ ((v6 = -1 ∧ τ2 = τ1 ∧ x2 = a2) ∨ (0 ≤ v6 ∧ a2 < x2)) := by
      rcases f3 with ⟨h1, h2⟩ | ⟨h1, h2, h3, h4, h5⟩
      · refine ⟨τ1, v2, a2, ?_, mf_rfl, J1, .inl ⟨h1, rfl, rfl⟩⟩
        rw [mm_layTogether_232, if_pos (by rw [h1]; decide)]
      · obtain ⟨υ, w2, x2, y1, y2, y3, y4⟩ := R_step hN (r9 := mm_layTogether_9 N n) (v1 := w1) (v3 := x1) (v5 := v5) K nd hL J1 e166' h1.1 h1.2 h2 (by rw [e166', ← e166]; exact h3) (by rw [e165]; exact h4) (fun d d0 d1 wd sd ad => by
          rw [e165] at ad ⊢
          rw [e165]
          exact h5 d d0 d1 wd (by rw [e166, ← e166']; exact sd) ad)
        refine ⟨υ, w2, x2, ?_, y2, y3, .inr ⟨h1.1, y4⟩⟩
        rw [mm_layTogether_232, if_neg (Int32.not_lt.mpr h1.1), gd_in (by decide) h1.1 (Int32.lt_trans h1.2 (by decide))]
        simp only [lt, sI_fold]
        exact y1
    have I2 : IV μ τ2 L w1 x1 := IV_fr I1 fr2 rfl rfl rfl
    have frA : m_fr lyK μ τ2 := mf_tr fr (mf_tr (tk_ly fr1) (tr_ly fr2))
    have go : mm_layTogether_9 N (n + 1) v v2 a a2 τ = mm_layTogether_310 N (mm_layTogether_9 N n) w1 w2 x1 x2 v5 v6 τ2 := by
      rw [mm_layTogether_9, f1, q1, q2]
    rw [go]
    have b1 := I2.2.1.2
    have b2 := J2.2.1.2
    rw [tI_le] at b1 b2 am1 am2
    have z1 : (500000 : Int32).toInt = 500000 := rfl
    have z2 : (5000 : Int32).toInt = 5000 := rfl
    have z3 : (-1 : Int32).toInt = -1 := rfl
    rw [z1] at b1
    rw [z2] at b2
    rw [z3] at am1 am2
    have again : (a.toInt ≤ x1.toInt ∧ a2.toInt ≤ x2.toInt ∧ (a.toInt < x1.toInt ∨ a2.toInt < x2.toInt)) → mm_layTogether_310 N (mm_layTogether_9 N n) w1 w2 x1 x2 v5 v6 τ2 = mm_layTogether_9 N n w1 w2 x1 x2 τ2 → ∃ υ V A V2 A2, mm_layTogether_310 N (mm_layTogether_9 N n) w1 w2 x1 x2 v5 v6 τ2 = some υ ∧ m_fr lyK μ υ ∧ IV μ υ L V A ∧ IR μ υ L V2 A2 ∧ (∀ d, wts μ d → 0 < sI μ 164 d → sI υ 163 d ≤ A) ∧ (∀ d, wts μ d → 0 < sI μ 166 d → sI υ 165 d ≤ A2) ∧ sF υ 175 = V ∧ sF υ 177 = V2 := fun hlt heq => by
      rw [heq]
      simp only [lms] at hm
      obtain ⟨m, rfl⟩ : ∃ i, m = i + 1 := ⟨m - 1, by omega⟩
      exact lt_main hN K B tg nd hL m n τ2 w1 x1 w2 x2 (by simp only [lms]; omega) (by omega) frA I2 J2
    rcases pr1 with ⟨p1, p2, p3⟩ | ⟨p1, p2⟩
    · rcases pr2 with ⟨r1, r2, r3⟩ | ⟨r1, r2⟩
      · -- all lie together
        have n5 : ¬ 0 ≤ v5 := by rw [p1]; decide
        have n6 : ¬ 0 ≤ v6 := by rw [r1]; decide
        refine ⟨md_pi (md_pi τ2 175 w1) 177 w2, w1, x1, w2, x2, ?_, mf_pi (mf_pi frA rfl) rfl, IV_fr I2 (mf_pi (mf_pi (P := fun k => [175, 177].contains k) mf_rfl rfl) rfl) rfl rfl rfl, IR_fr J2 (mf_pi (mf_pi (P := fun k => [175, 177].contains k) mf_rfl rfl) rfl) rfl rfl, fun d wd sd => ?_, fun d wd sd => ?_, by simp only [sF_pi, sF_pl, sF_ai, sF_al, sG_pi, sG_pl, sG_ai, sG_al, sI_pi, sI_pl, sI_al, sI_ai1, sI_ai2, sJ_pi, sJ_pl, sJ_ai, sJ_al1, sJ_al2, Nat.reduceEqDiff, if_true, if_false, ne_eq, not_false_eq_true, ite_true, ite_false], by simp only [sF_pi, sF_pl, sF_ai, sF_al, sG_pi, sG_pl, sG_ai, sG_al, sI_pi, sI_pl, sI_al, sI_ai1, sI_ai2, sJ_pi, sJ_pl, sJ_ai, sJ_al1, sJ_al2, Nat.reduceEqDiff, if_true, if_false, ne_eq, not_false_eq_true, ite_true, ite_false]⟩
        · simp only [mm_layTogether_310, lt]
          rw [if_neg n5, if_neg n6]
        · simp only [sF_pi, sF_pl, sF_ai, sF_al, sG_pi, sG_pl, sG_ai, sG_al, sI_pi, sI_pl, sI_al, sI_ai1, sI_ai2, sJ_pi, sJ_pl, sJ_ai, sJ_al1, sJ_al2, Nat.reduceEqDiff, if_true, if_false, ne_eq, not_false_eq_true, ite_true, ite_false]
          rw [r2, p2, p3]
          rcases f2 with ⟨_, h2⟩ | ⟨h1, _⟩
          · exact h2 d wd.1 wd.2.1 wd (by rw [e164]; exact sd)
          · exact absurd h1.1 n5
        · simp only [sF_pi, sF_pl, sF_ai, sF_al, sG_pi, sG_pl, sG_ai, sG_al, sI_pi, sI_pl, sI_al, sI_ai1, sI_ai2, sJ_pi, sJ_pl, sJ_ai, sJ_al1, sJ_al2, Nat.reduceEqDiff, if_true, if_false, ne_eq, not_false_eq_true, ite_true, ite_false]
          rw [r2, p2, r3]
          rcases f3 with ⟨_, h2⟩ | ⟨h1, _⟩
          · exact h2 d wd.1 wd.2.1 wd (by rw [e166]; exact sd)
          · exact absurd h1.1 n6
      · have n5 : ¬ 0 ≤ v5 := by rw [p1]; decide
        rw [tI_lt] at r2
        refine again ⟨by rw [p3]; omega, by omega, .inr r2⟩ ?_
        simp only [mm_layTogether_310, mm_layTogether_331]
        rw [if_neg n5, if_pos r1]
    · rw [tI_lt] at p2
      refine again ⟨by omega, ?_, .inl p2⟩ ?_
      · rcases pr2 with ⟨_, _, r3⟩ | ⟨_, r2⟩
        · rw [r3]; omega
        · rw [tI_lt] at r2; omega
      · simp only [mm_layTogether_310, mm_layTogether_331]
        rw [if_pos p1]
def szV (μ : mS) (d : Int32) : Int := if wtb μ d = true then (sI μ 164 d).toInt else 0
def szR (μ : mS) (d : Int32) : Int := if wtb μ d = true then (sI μ 166 d).toInt else 0
theorem sum_le {l : List Int32} {f g : Int32 → Int} (h : ∀ x, x ∈ l → f x ≤ g x) : (l.map f).sum ≤ (l.map g).sum := by
  induction l with
  | nil => simp
  | cons a l ih =>
    simp only [List.map_cons, List.sum_cons]
    have := h a List.mem_cons_self
    have := ih (fun x hx => h x (List.mem_cons_of_mem _ hx))
    omega
theorem sum_10 {l : List Int32} {f : Int32 → Int} : (l.map (fun d => 10 * f d)).sum = 10 * (l.map f).sum := by
  induction l with
  | nil => simp
  | cons a l ih =>
    simp only [List.map_cons, List.sum_cons, ih]
    omega
theorem ky_1 {s k : Int32} {j : Nat} (s1 : s ≤ 500) (k0 : 0 ≤ k) (k1 : k < s) (hj : j < 10) : 0 < 10 * s ∧ 0 ≤ 10 * k + Int32.ofNat j ∧ 10 * k + Int32.ofNat j < 10 * s := by
  have j0 : 0 ≤ Int32.ofNat j ∧ Int32.ofNat j < 10 := ⟨oN_nn (by omega), by rw [show (10 : Int32) = Int32.ofNat 10 from rfl, oN_lt (by omega) (by omega)]; exact hj⟩
  generalize Int32.ofNat j = y at *
  exact ⟨by lia, by lia, by lia⟩
/-- what waits is the same as before, and lies together -/
theorem layT_m {N : Nat} (hN : 1000000000 ≤ N) (hN' : BIG ≤ N) {μ : mS} {L : List Int32} (K : KL μ) (B : bZ μ) (tg : ∀ d, wts μ d → ∀ i, 0 ≤ i → i < sI μ 164 d → 0 ≤ kpt μ d i ∧ kpt μ d i ≤ 8) (nd : L.Nodup) (hL : ∀ d, wts μ d → d ∈ L) : ∃ τ, mm_layTogether N μ = some τ ∧ m_fr lyK μ τ ∧ KL τ ∧ (∀ d, wts μ d → (∀ k j, 0 ≤ k → k < sI μ 166 d → j < 10 → kff τ d k j = kff μ d k j) ∧ ∀ i, 0 ≤ i → i < sI μ 164 d → kpt τ d i = kpt μ d i ∧ kpv τ d i = kpv μ d i) ∧ (sF τ 175).toInt ≤ (L.map (szV μ)).sum ∧ (sF τ 177).toInt ≤ 10 * (L.map (szR μ)).sum := by
  have tn : ∀ d, wts μ d → (0 < s10 μ d ↔ 0 < sI μ 166 d) ∧ 0 ≤ s10 μ d ∧ s10 μ d ≤ 5000 ∧ (s10 μ d).toInt = 10 * (sI μ 166 d).toInt := fun d wd => by
    obtain ⟨q1, q2, q3, q4, q5, q6⟩ := K.2.2.1 d wd
    exact ten_1 q3 q4
  have I0 : IV μ μ L 0 (-1) := by
    refine ⟨⟨by decide, fun d wd sd => .inl ⟨?_, rfl, ?_⟩, fun d e wd we ne sd se ad ae => ?_⟩, by decide, fun _ _ _ _ _ _ => ⟨rfl, rfl⟩, by rw [show (0 : Int32).toInt = 0 from rfl]; omega⟩
    · exact Int32.lt_of_lt_of_le (by decide) (((K.2.2.1 d wd).2.2.2.2.1 sd).1)
    · exact ((K.2.2.1 d wd).2.2.2.2.1 sd).1
    · exact (K.2.2.2 d e wd we ne).1 sd se
  have J0 : IR μ μ L 0 (-1) := by
    refine ⟨⟨by decide, fun d wd sd => .inl ⟨?_, rfl, ?_⟩, fun d e wd we ne sd se ad ae => ?_⟩, by decide, fun _ _ _ _ _ _ => rfl, by rw [show (0 : Int32).toInt = 0 from rfl]; omega⟩
    · exact Int32.lt_of_lt_of_le (by decide) (((K.2.2.1 d wd).2.2.2.2.2 ((tn d wd).1.mp sd)).1)
    · exact ((K.2.2.1 d wd).2.2.2.2.2 ((tn d wd).1.mp sd)).1
    · exact (K.2.2.2 d e wd we ne).2 ((tn d wd).1.mp sd) ((tn e we).1.mp se)
  obtain ⟨υ, V, A, V2, A2, u1, u2, u3, u4, u5, u6, u7, u8⟩ := lt_main hN' K B tg nd hL 600000 N μ 0 (-1) 0 (-1) (by decide) (by omega) mf_rfl I0 J0
  have ew := wts_eq u2
  have e164 : ∀ x, sI υ 164 x = sI μ 164 x := fun x => mf_I u2 (lyK_f (by omega))
  have e166 : ∀ x, sI υ 166 x = sI μ 166 x := fun x => mf_I u2 (lyK_f (by omega))
  obtain ⟨C, ⟨vb, ab⟩, D, S⟩ := u3
  obtain ⟨C2, ⟨vb2, ab2⟩, D2, S2⟩ := u4
  have cV : ∀ d, wts μ d → 0 < sI μ 164 d → sI μ 163 d ≤ A ∧ 0 ≤ sI υ 163 d ∧ sI υ 163 d + sI μ 164 d ≤ V ∧ sI υ 163 d ≤ A := fun d wd sd => by
    rcases C.2.1 d wd sd with r | r
    · have := u5 d wd sd
      rw [r.2.1] at this
      exact absurd r.1 (Int32.not_lt.mpr this)
    · exact r
  have cR : ∀ d, wts μ d → 0 < s10 μ d → sI μ 165 d ≤ A2 ∧ 0 ≤ sI υ 165 d ∧ sI υ 165 d + s10 μ d ≤ V2 ∧ sI υ 165 d ≤ A2 := fun d wd sd => by
    rcases C2.2.1 d wd sd with r | r
    · have := u6 d wd ((tn d wd).1.mp sd)
      rw [r.2.1] at this
      exact absurd r.1 (Int32.not_lt.mpr this)
    · exact r
  refine ⟨υ, u1, u2, ⟨by rw [u7]; exact ⟨C.1.2, vb⟩, by rw [u8]; exact ⟨C2.1.2, vb2⟩, fun d wd => ?_, fun d e wd we ne => ?_⟩, fun d wd => ⟨fun k j k0 k1 hj => ?_, fun i i0 i1 => ?_⟩, ?_, ?_⟩
  · rw [ew] at wd
    obtain ⟨q1, q2, q3, q4, q5, q6⟩ := K.2.2.1 d wd
    rw [e164, e166, u7, u8]
    refine ⟨q1, q2, q3, q4, fun s => ?_, fun s => ?_⟩
    · have := cV d wd s
      exact ⟨this.2.1, Int32.le_trans this.2.2.2 ab, this.2.2.1⟩
    · have := cR d wd ((tn d wd).1.mpr s)
      exact ⟨this.2.1, Int32.le_trans this.2.2.2 ab2, this.2.2.1⟩
  · rw [ew] at wd we
    rw [e164, e166, e164, e166]
    refine ⟨fun sd se => ?_, fun sd se => ?_⟩
    · exact C.2.2 d e wd we ne sd se (cV d wd sd).1 (cV e we se).1
    · have sd' := (tn d wd).1.mpr sd
      have se' := (tn e we).1.mpr se
      exact C2.2.2 d e wd we ne sd' se' (cR d wd sd').1 (cR e we se').1
  · simp only [kff]
    obtain ⟨q1, q2, q3, q4, q5, q6⟩ := K.2.2.1 d wd
    have p := ky_1 q4 k0 k1 hj
    have := D2 d wd p.1 (10 * k + Int32.ofNat j) p.2.1 p.2.2
    rw [Int32.add_assoc, this, Int32.add_assoc]
  · simp only [kpt, kpv]
    exact D d wd (Int32.lt_of_le_of_lt i0 i1) i i0 i1
  · rw [u7]
    have z0 : (0 : Int) ≤ sS (wtb μ) (sI μ 163) (sI μ 164) L A := sS_0
    have le : sS (wtb μ) (sI μ 163) (sI μ 164) L (-1) ≤ (L.map (szV μ)).sum := sum_le (fun x hx => by
      simp only [szV]
      by_cases c : wtb μ x = true
      · rw [if_pos c]
        by_cases c2 : wtb μ x = true ∧ 0 < sI μ 164 x ∧ -1 < sI μ 163 x
        · rw [if_pos c2]; exact Int.le_refl _
        · rw [if_neg c2]
          have q1 := (K.2.2.1 x (wtb_i.mp c)).1
          rw [tI_le] at q1; exact q1
      · rw [if_neg c, if_neg (fun d => c d.1)]; exact Int.le_refl _)
    omega
  · rw [u8]
    have z0 : (0 : Int) ≤ sS (wtb μ) (sI μ 165) (s10 μ) L A2 := sS_0
    rw [← sum_10]
    have le : sS (wtb μ) (sI μ 165) (s10 μ) L (-1) ≤ (L.map (fun d => 10 * szR μ d)).sum := sum_le (fun x hx => by
      simp only [szR]
      by_cases c : wtb μ x = true
      · rw [if_pos c]
        have t := tn x (wtb_i.mp c)
        by_cases c2 : wtb μ x = true ∧ 0 < s10 μ x ∧ -1 < sI μ 165 x
        · rw [if_pos c2, t.2.2.2]; exact Int.le_refl _
        · rw [if_neg c2]
          have q1 := (K.2.2.1 x (wtb_i.mp c)).2.2.1
          rw [tI_le] at q1
          have z0 : (0 : Int32).toInt = 0 := rfl
          omega
      · rw [if_neg c, if_neg (fun d => c d.1)]; exact Int.le_refl _)
    omega
