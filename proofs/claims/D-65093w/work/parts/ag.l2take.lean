/-! LAYER 2: what a call gives is taken -/
def tg (σ : mS) (k : Int32) : Int32 := if k < sF σ 402 then sI σ 400 k else 0
def tgv (σ : mS) (k : Int32) : Int64 := if k < sF σ 402 then sJ σ 401 k else 0
def mg (μ : mS) (k : Int32) : Int32 := if k < sF μ 190 then sI μ 188 k else 0
def mgv (μ : mS) (k : Int32) : Int64 := if k < sF μ 190 then sJ μ 189 k else 0
theorem GV_at {w : WD} {σ μ : mS} {n : Int32} (H : GV w σ μ n) {k : Int32} (k0 : 0 ≤ k) : VV w (tg σ k) (tgv σ k) (mg μ k) (mgv μ k) := by
  obtain ⟨h1, h2, h3, h4, h5⟩ := H
  simp only [tg, tgv, mg, mgv, h1, h2]
  by_cases c : k < n
  · rw [if_pos c, if_pos c, if_pos c, if_pos c]; exact h5 k k0 c
  · rw [if_neg c, if_neg c, if_neg c, if_neg c]; exact .inl ⟨rfl, rfl, rfl, rfl⟩
/-- registers are written one behind the other -/
def wrX (b n : Int32) (gt : Int32 → Int32) (gv : Int32 → Int64) (σ τ : mS) : Prop := (∀ k, 0 ≤ k → k < n → sI τ 364 (b + k) = gt k ∧ sJ τ 365 (b + k) = gv k) ∧ ∀ i, 0 ≤ i → i < b ∨ b + n ≤ i → sI τ 364 i = sI σ 364 i ∧ sJ τ 365 i = sJ σ 365 i
theorem wr1_x {σ : mS} {b k n : Int32} {gt : Int32 → Int32} {gv : Int32 → Int64} {σ0 : mS} (h : wrX b k gt gv σ0 σ) (b0 : 0 ≤ b) (b1 : b ≤ 600000) (k0 : 0 ≤ k) (k1 : k ≤ 3000) : wrX b (k + 1) gt gv σ0 (md_al (md_ai σ 364 (b + k).toNatClampNeg (gt k)) 365 (b + k).toNatClampNeg (gv k)) := by
  obtain ⟨h1, h2⟩ := h
  have p : 0 ≤ b + k := by lia
  refine ⟨fun j j0 j1 => ?_, fun i i0 i1 => ?_⟩
  · simp (disch := lia) only [sF_pi, sF_pl, sF_ai, sF_al, sG_pi, sG_pl, sG_ai, sG_al, sI_pi, sI_pl, sI_al, sI_ai1, sI_ai2, sJ_pi, sJ_pl, sJ_ai, sJ_al1, sJ_al2, Nat.reduceEqDiff, if_true, if_false, ne_eq, not_false_eq_true, ite_true, ite_false, sI_ai p, sJ_al p, true_and, false_and]
    by_cases q : j = k
    · subst q; rw [if_pos rfl, if_pos rfl]; exact ⟨rfl, rfl⟩
    · rw [if_neg (by lia), if_neg (by lia)]
      exact h1 j j0 (by lia)
  · simp (disch := lia) only [sF_pi, sF_pl, sF_ai, sF_al, sG_pi, sG_pl, sG_ai, sG_al, sI_pi, sI_pl, sI_al, sI_ai1, sI_ai2, sJ_pi, sJ_pl, sJ_ai, sJ_al1, sJ_al2, Nat.reduceEqDiff, if_true, if_false, ne_eq, not_false_eq_true, ite_true, ite_false, sI_ai p, sJ_al p, true_and, false_and]
    rw [if_neg (by lia), if_neg (by lia)]
    exact h2 i i0 (by lia)
theorem take_lp {N : Nat} {σ : mS} {f rg b n : Int32} (f0 : 0 ≤ f) (f1 : f < 202) (b0 : 0 ≤ b) (b1 : b + n ≤ 560000) (bm : b ≤ 560000) (n0 : 0 ≤ n) (n1 : n ≤ 2500) (cn : 0 ≤ sF σ 402) (cn1 : sF σ 402 ≤ 101) (tt : ∀ k, 0 ≤ k → 0 ≤ tg σ k ∧ tg σ k ≤ 8) (j : Nat) (k : Int32) (k0 : 0 ≤ k) (k1 : k ≤ n) (hj : (n.toInt - k.toInt).toNat < j) : ∀ τ : mS, m_fr (fun k => [364, 365].contains k) σ τ → wrX b k (tg σ) (tgv σ) σ τ → ∃ υ, xx6_take_b59 N j f rg b n k τ = some υ ∧ m_fr (fun k => [354, 364, 365].contains k) σ υ ∧ wrX b n (tg σ) (tgv σ) σ υ ∧ (∀ g, 0 ≤ g → sI υ 354 g = if g = f then rg + n else sI σ 354 g) := by
  refine loop_up (lo := 0) (m := n) (fun j k => ∀ τ : mS, m_fr (fun k => [364, 365].contains k) σ τ → wrX b k (tg σ) (tgv σ) σ τ → ∃ υ, xx6_take_b59 N j f rg b n k τ = some υ ∧ m_fr (fun k => [354, 364, 365].contains k) σ υ ∧ wrX b n (tg σ) (tgv σ) σ υ ∧ (∀ g, 0 ≤ g → sI υ 354 g = if g = f then rg + n else sI σ 354 g)) ?_ j k k0 k1 hj
  clear hj k0 k1 k j
  intro j k k0 k1 ih τ fr hw
  have fr' : m_fr (fun k => [354, 364, 365].contains k) σ τ := mf_mono fr (fun k hk => by
    simp only [List.contains_cons, List.contains_nil, Bool.or_eq_false_iff, beq_eq_false_iff_ne] at hk ⊢
    (repeat' (first | exact trivial | omega | apply And.intro)))
  have e402 : sF τ 402 = sF σ 402 := mf_F fr rfl
  by_cases c : n ≤ k
  · have : k = n := by lia
    subst this
    simp (disch := lia) only [xx6_take_b59, xx6_take_b260, lt, gd_in, if_pos, if_neg, ↓reduceIte, gd_z0, gd_z1, gd_tt, sF_fold, sG_fold, sI_fold, sJ_fold]
    refine ⟨_, rfl, mf_ai fr' rfl, ?_, fun g g0 => ?_⟩
    · obtain ⟨a, b'⟩ := hw
      exact ⟨fun i i0 i1 => by simp (disch := lia) only [sF_pi, sF_pl, sF_ai, sF_al, sG_pi, sG_pl, sG_ai, sG_al, sI_pi, sI_pl, sI_al, sI_ai1, sI_ai2, sJ_pi, sJ_pl, sJ_ai, sJ_al1, sJ_al2, Nat.reduceEqDiff, if_true, if_false, ne_eq, not_false_eq_true, ite_true, ite_false]; exact a i i0 i1, fun i i0 i1 => by simp (disch := lia) only [sF_pi, sF_pl, sF_ai, sF_al, sG_pi, sG_pl, sG_ai, sG_al, sI_pi, sI_pl, sI_al, sI_ai1, sI_ai2, sJ_pi, sJ_pl, sJ_ai, sJ_al1, sJ_al2, Nat.reduceEqDiff, if_true, if_false, ne_eq, not_false_eq_true, ite_true, ite_false]; exact b' i i0 i1⟩
    · rw [sI_ai f0 g0]
      simp only [true_and]
      rw [mf_I fr rfl]
  · have t := tt k k0
    have key : xx6_take_b59 N (j + 1) f rg b n k τ = xx6_take_b59 N j f rg b n (k + 1) (md_al (md_ai τ 364 (b + k).toNatClampNeg (tg σ k)) 365 (b + k).toNatClampNeg (tgv σ k)) := by
      by_cases d : sF σ 402 ≤ k
      · have e1 : tg σ k = 0 := if_neg (by lia)
        have e2 : tgv σ k = 0 := if_neg (by lia)
        have nb : vp_nar .byte (0 : Int32) = 0 := nar_tg (by decide) (by decide)
        rw [e1, e2]
        simp (disch := lia) only [xx6_take_b59, xx6_take_b98, xx6_take_b131, lt, gd_in, if_pos, if_neg, ↓reduceIte, gd_z0, gd_z1, gd_tt, sF_fold, sG_fold, sI_fold, sJ_fold, sF_pi, sF_pl, sF_ai, sF_al, sG_pi, sG_pl, sG_ai, sG_al, sI_pi, sI_pl, sI_al, sI_ai1, sI_ai2, sJ_pi, sJ_pl, sJ_ai, sJ_al1, sJ_al2, Nat.reduceEqDiff, if_true, if_false, ne_eq, not_false_eq_true, ite_true, ite_false, e402, nb]
      · have e1 : tg σ k = sI σ 400 k := if_pos (by lia)
        have e2 : tgv σ k = sJ σ 401 k := if_pos (by lia)
        rw [e1] at t
        have nb : vp_nar .byte (sI σ 400 k) = sI σ 400 k := nar_tg t.1 t.2
        have i400 : sI τ 400 k = sI σ 400 k := mf_I fr rfl
        have j401 : sJ τ 401 k = sJ σ 401 k := mf_J fr rfl
        rw [e1, e2]
        simp (disch := lia) only [xx6_take_b59, xx6_take_b98, xx6_take_b131, lt, gd_in, if_pos, if_neg, ↓reduceIte, gd_z0, gd_z1, gd_tt, sF_fold, sG_fold, sI_fold, sJ_fold, sF_pi, sF_pl, sF_ai, sF_al, sG_pi, sG_pl, sG_ai, sG_al, sI_pi, sI_pl, sI_al, sI_ai1, sI_ai2, sJ_pi, sJ_pl, sJ_ai, sJ_al1, sJ_al2, Nat.reduceEqDiff, if_true, if_false, ne_eq, not_false_eq_true, ite_true, ite_false, e402, nb, i400, j401]
    rw [key]
    exact ih (by lia) _ (mf_al (mf_ai fr rfl) rfl) (wr1_x (n := n) hw b0 (by lia) k0 (by lia))
/-- one register -/
theorem take1_x {N : Nat} {σ : mS} {f rg : Int32} {md : Int32} (hm : md = 1 ∨ md = 2) (f0 : 0 ≤ f) (f1 : f < 202) (r0 : 0 ≤ sI σ 347 f + rg) (r1 : sI σ 347 f + rg < 560000) (cn : 0 ≤ sF σ 402) (tt : ∀ k, 0 ≤ k → 0 ≤ tg σ k ∧ tg σ k ≤ 8) (wt : Int32) : ∃ τ, xx6_take N σ f md rg wt = some τ ∧ m_fr (fun k => [364, 365].contains k) σ τ ∧ wrX (sI σ 347 f + rg) 1 (fun _ => if md = 1 then tg σ 0 else if 1 < tg σ 0 then 2 else 1) (fun _ => if md = 1 then tgv σ 0 else 0) σ τ := by
  have t := tt 0 (by decide)
  have w1 : ∀ (a : Int32) (v : Int64), wrX (sI σ 347 f + rg) 1 (fun _ => a) (fun _ => v) σ (md_al (md_ai σ 364 (sI σ 347 f + rg).toNatClampNeg a) 365 (sI σ 347 f + rg).toNatClampNeg v) := fun a v => by
    refine ⟨fun k k0 k1 => ?_, fun i i0 i1 => ?_⟩
    · have : k = 0 := by lia
      subst this
      have e : sI σ 347 f + rg + 0 = sI σ 347 f + rg := by lia
      rw [e]
      simp (disch := lia) only [sF_pi, sF_pl, sF_ai, sF_al, sG_pi, sG_pl, sG_ai, sG_al, sI_pi, sI_pl, sI_al, sI_ai1, sI_ai2, sJ_pi, sJ_pl, sJ_ai, sJ_al1, sJ_al2, Nat.reduceEqDiff, if_true, if_false, ne_eq, not_false_eq_true, ite_true, ite_false]
      exact ⟨trivial, trivial⟩
    · simp (disch := lia) only [sF_pi, sF_pl, sF_ai, sF_al, sG_pi, sG_pl, sG_ai, sG_al, sI_pi, sI_pl, sI_al, sI_ai1, sI_ai2, sJ_pi, sJ_pl, sJ_ai, sJ_al1, sJ_al2, Nat.reduceEqDiff, if_true, if_false, ne_eq, not_false_eq_true, ite_true, ite_false, sI_ai r0 i0, sJ_al r0 i0, true_and]
      rw [if_neg (by lia), if_neg (by lia)]
      exact ⟨rfl, rfl⟩
  have fr : ∀ (a : Int32) (v : Int64), m_fr (fun k => [364, 365].contains k) σ (md_al (md_ai σ 364 (sI σ 347 f + rg).toNatClampNeg a) 365 (sI σ 347 f + rg).toNatClampNeg v) := fun a v => mf_al (mf_ai mf_rfl rfl) rfl
  have n1 : vp_nar .byte ((1 : Int32).toInt8.toInt32) = 1 := nar_tag (by decide) (by decide)
  have n2 : vp_nar .byte ((2 : Int32).toInt8.toInt32) = 2 := nar_tag (by decide) (by decide)
  have n0 : vp_nar .byte (0 : Int32) = 0 := nar_tg (by decide) (by decide)
  rcases hm with rfl | rfl
  · by_cases d : sF σ 402 ≤ 0
    · have e1 : tg σ 0 = 0 := if_neg (by lia)
      have e2 : tgv σ 0 = 0 := if_neg (by lia)
      refine ⟨_, ?_, fr 0 0, ?_⟩
      · simp (disch := lia) only [xx6_take, xx6_take_b180, xx6_take_b207, xx6_take_b260, lt, gd_in, if_pos, if_neg, ↓reduceIte, gd_z0, gd_z1, gd_tt, sF_fold, sG_fold, sI_fold, sJ_fold, sF_pi, sF_pl, sF_ai, sF_al, sG_pi, sG_pl, sG_ai, sG_al, sI_pi, sI_pl, sI_al, sI_ai1, sI_ai2, sJ_pi, sJ_pl, sJ_ai, sJ_al1, sJ_al2, Nat.reduceEqDiff, if_true, if_false, ne_eq, not_false_eq_true, ite_true, ite_false, n0]
      · rw [if_pos rfl, if_pos rfl, e1, e2]; exact w1 0 0
    · have e1 : tg σ 0 = sI σ 400 0 := if_pos (by lia)
      have e2 : tgv σ 0 = sJ σ 401 0 := if_pos (by lia)
      rw [e1] at t
      have nb : vp_nar .byte (sI σ 400 0) = sI σ 400 0 := nar_tg t.1 t.2
      refine ⟨_, ?_, fr (sI σ 400 0) (sJ σ 401 0), ?_⟩
      · simp (disch := lia) only [xx6_take, xx6_take_b180, xx6_take_b207, xx6_take_b260, lt, gd_in, if_pos, if_neg, ↓reduceIte, gd_z0, gd_z1, gd_tt, sF_fold, sG_fold, sI_fold, sJ_fold, sF_pi, sF_pl, sF_ai, sF_al, sG_pi, sG_pl, sG_ai, sG_al, sI_pi, sI_pl, sI_al, sI_ai1, sI_ai2, sJ_pi, sJ_pl, sJ_ai, sJ_al1, sJ_al2, Nat.reduceEqDiff, if_true, if_false, ne_eq, not_false_eq_true, ite_true, ite_false, nb]
      · rw [if_pos rfl, if_pos rfl, e1, e2]; exact w1 _ _
  · rw [if_neg (by decide)]
    by_cases d : sF σ 402 ≤ 0
    · have e1 : tg σ 0 = 0 := if_neg (by lia)
      refine ⟨_, ?_, fr 1 0, ?_⟩
      · simp (disch := lia) only [xx6_take, xx6_take_b243, xx6_take_b244, xx6_take_b260, lt, gd_in, if_pos, if_neg, ↓reduceIte, gd_z0, gd_z1, gd_tt, sF_fold, sG_fold, sI_fold, sJ_fold, sF_pi, sF_pl, sF_ai, sF_al, sG_pi, sG_pl, sG_ai, sG_al, sI_pi, sI_pl, sI_al, sI_ai1, sI_ai2, sJ_pi, sJ_pl, sJ_ai, sJ_al1, sJ_al2, Nat.reduceEqDiff, if_true, if_false, ne_eq, not_false_eq_true, ite_true, ite_false, n1]
      · rw [e1]; exact w1 1 0
    · have e1 : tg σ 0 = sI σ 400 0 := if_pos (by lia)
      rw [e1]
      by_cases z : sI σ 400 0 ≤ 1
      · refine ⟨_, ?_, fr 1 0, ?_⟩
        · simp (disch := lia) only [xx6_take, xx6_isTrue, xx6_isTrue_b10, xx6_take_b243, xx6_take_b244, xx6_take_b260, lt, gd_in, if_pos, if_neg, ↓reduceIte, gd_z0, gd_z1, gd_tt, sF_fold, sG_fold, sI_fold, sJ_fold, sF_pi, sF_pl, sF_ai, sF_al, sG_pi, sG_pl, sG_ai, sG_al, sI_pi, sI_pl, sI_al, sI_ai1, sI_ai2, sJ_pi, sJ_pl, sJ_ai, sJ_al1, sJ_al2, Nat.reduceEqDiff, if_true, if_false, ne_eq, not_false_eq_true, ite_true, ite_false, n1, bd]
        · rw [if_neg (by lia)]; exact w1 1 0
      · refine ⟨_, ?_, fr 2 0, ?_⟩
        · simp (disch := lia) only [xx6_take, xx6_isTrue, xx6_isTrue_b10, xx6_take_b243, xx6_take_b244, xx6_take_b260, lt, gd_in, if_pos, if_neg, ↓reduceIte, gd_z0, gd_z1, gd_tt, sF_fold, sG_fold, sI_fold, sJ_fold, sF_pi, sF_pl, sF_ai, sF_al, sG_pi, sG_pl, sG_ai, sG_al, sI_pi, sI_pl, sI_al, sI_ai1, sI_ai2, sJ_pi, sJ_pl, sJ_ai, sJ_al1, sJ_al2, Nat.reduceEqDiff, if_true, if_false, ne_eq, not_false_eq_true, ite_true, ite_false, n2, bd]
        · rw [if_pos (by lia)]; exact w1 2 0
/-- the pile is written one behind the other -/
def wrM (b n : Int32) (gt : Int32 → Int32) (gv : Int32 → Int64) (σ τ : mS) : Prop := (∀ k, 0 ≤ k → k < n → sI τ 141 (b + k) = gt k ∧ sJ τ 142 (b + k) = gv k) ∧ ∀ i, 0 ≤ i → i < b ∨ b + n ≤ i → sI τ 141 i = sI σ 141 i ∧ sJ τ 142 i = sJ σ 142 i
theorem wr1_m {σ : mS} {b k : Int32} {gt : Int32 → Int32} {gv : Int32 → Int64} {σ0 : mS} {t : Int32} (h : wrM b k gt gv σ0 σ) (b0 : 0 ≤ b) (b1 : b ≤ 600000) (k0 : 0 ≤ k) (k1 : k ≤ 3000) : wrM b (k + 1) gt gv σ0 (md_pi (md_al (md_ai σ 141 (b + k).toNatClampNeg (gt k)) 142 (b + k).toNatClampNeg (gv k)) 143 t) := by
  obtain ⟨h1, h2⟩ := h
  have p : 0 ≤ b + k := by lia
  refine ⟨fun j j0 j1 => ?_, fun i i0 i1 => ?_⟩
  · simp (disch := lia) only [sF_pi, sF_pl, sF_ai, sF_al, sG_pi, sG_pl, sG_ai, sG_al, sI_pi, sI_pl, sI_al, sI_ai1, sI_ai2, sJ_pi, sJ_pl, sJ_ai, sJ_al1, sJ_al2, Nat.reduceEqDiff, if_true, if_false, ne_eq, not_false_eq_true, ite_true, ite_false, sI_ai p, sJ_al p, true_and, false_and]
    by_cases q : j = k
    · subst q; rw [if_pos rfl, if_pos rfl]; exact ⟨rfl, rfl⟩
    · rw [if_neg (by lia), if_neg (by lia)]
      exact h1 j j0 (by lia)
  · simp (disch := lia) only [sF_pi, sF_pl, sF_ai, sF_al, sG_pi, sG_pl, sG_ai, sG_al, sI_pi, sI_pl, sI_al, sI_ai1, sI_ai2, sJ_pi, sJ_pl, sJ_ai, sJ_al1, sJ_al2, Nat.reduceEqDiff, if_true, if_false, ne_eq, not_false_eq_true, ite_true, ite_false, sI_ai p, sJ_al p, true_and, false_and]
    rw [if_neg (by lia), if_neg (by lia)]
    exact h2 i i0 (by lia)
theorem push_m {N : Nat} {μ : mS} {t : Int32} {v : Int64} (h0 : 0 ≤ sF μ 143) (h1 : sF μ 143 < 500000) (t0 : 0 ≤ t) (t1 : t ≤ 8) : mm_push N μ t v = some (md_pi (md_al (md_ai μ 141 (sF μ 143).toNatClampNeg t) 142 (sF μ 143).toNatClampNeg v) 143 (sF μ 143 + 1)) := by
  simp (disch := lia) only [mm_push, lt, gd_in, if_pos, if_neg, ↓reduceIte, gd_z0, gd_z1, gd_tt, sF_fold, sG_fold, sI_fold, sJ_fold, sF_pi, sF_pl, sF_ai, sF_al, sG_pi, sG_pl, sG_ai, sG_al, sI_pi, sI_pl, sI_al, sI_ai1, sI_ai2, sJ_pi, sJ_pl, sJ_ai, sJ_al1, sJ_al2, Nat.reduceEqDiff, if_true, if_false, ne_eq, not_false_eq_true, ite_true, ite_false, nar_tag]
theorem fin_lp {N : Nat} {T : ty_finish} {μ : mS} {b n : Int32} (b0 : 0 ≤ b) (b1 : b + n ≤ 490000) (bm : b ≤ 490000) (n0 : 0 ≤ n) (n1 : n ≤ 2500) (cl0 : 1 ≤ sF μ 154) (cl1 : sF μ 154 ≤ 256) (cn : 0 ≤ sF μ 190) (cn1 : sF μ 190 ≤ 101) (tt : ∀ k, 0 ≤ k → 0 ≤ mg μ k ∧ mg μ k ≤ 8) (j : Nat) (k : Int32) (k0 : 0 ≤ k) (k1 : k ≤ n) (hj : (n.toInt - k.toInt).toNat < j) : ∀ τ : mS, m_fr (fun k => [141, 142, 143].contains k) μ τ → sF τ 143 = b + k → wrM b k (mg μ) (mgv μ) μ τ → ∃ υ, mm_finish_244 N T j n k τ = some υ ∧ m_fr (fun k => [141, 142, 143, 153].contains k) μ υ ∧ sF υ 143 = b + n ∧ wrM b n (mg μ) (mgv μ) μ υ ∧ (∀ g, 0 ≤ g → sI υ 153 g = if g = sF μ 154 - 1 then n else sI μ 153 g) := by
  refine loop_up (lo := 0) (m := n) (fun j k => ∀ τ : mS, m_fr (fun k => [141, 142, 143].contains k) μ τ → sF τ 143 = b + k → wrM b k (mg μ) (mgv μ) μ τ → ∃ υ, mm_finish_244 N T j n k τ = some υ ∧ m_fr (fun k => [141, 142, 143, 153].contains k) μ υ ∧ sF υ 143 = b + n ∧ wrM b n (mg μ) (mgv μ) μ υ ∧ (∀ g, 0 ≤ g → sI υ 153 g = if g = sF μ 154 - 1 then n else sI μ 153 g)) ?_ j k k0 k1 hj
  clear hj k0 k1 k j
  intro j k k0 k1 ih τ fr ht hw
  have fr' : m_fr (fun k => [141, 142, 143, 153].contains k) μ τ := mf_mono fr (fun k hk => by
    simp only [List.contains_cons, List.contains_nil, Bool.or_eq_false_iff, beq_eq_false_iff_ne] at hk ⊢
    (repeat' (first | exact trivial | omega | apply And.intro)))
  have e190 : sF τ 190 = sF μ 190 := mf_F fr rfl
  have e154 : sF τ 154 = sF μ 154 := mf_F fr rfl
  by_cases c : n ≤ k
  · have : k = n := by lia
    subst this
    simp (disch := lia) only [mm_finish_244, lt, gd_in, if_pos, if_neg, ↓reduceIte, gd_z0, gd_z1, gd_tt, sF_fold, sG_fold, sI_fold, sJ_fold, e154]
    refine ⟨_, rfl, mf_ai fr' rfl, by simp only [sF_pi, sF_pl, sF_ai, sF_al, sG_pi, sG_pl, sG_ai, sG_al, sI_pi, sI_pl, sI_al, sI_ai1, sI_ai2, sJ_pi, sJ_pl, sJ_ai, sJ_al1, sJ_al2, Nat.reduceEqDiff, if_true, if_false, ne_eq, not_false_eq_true, ite_true, ite_false]; exact ht, ?_, fun g g0 => ?_⟩
    · obtain ⟨a, b'⟩ := hw
      exact ⟨fun i i0 i1 => by simp (disch := lia) only [sF_pi, sF_pl, sF_ai, sF_al, sG_pi, sG_pl, sG_ai, sG_al, sI_pi, sI_pl, sI_al, sI_ai1, sI_ai2, sJ_pi, sJ_pl, sJ_ai, sJ_al1, sJ_al2, Nat.reduceEqDiff, if_true, if_false, ne_eq, not_false_eq_true, ite_true, ite_false]; exact a i i0 i1, fun i i0 i1 => by simp (disch := lia) only [sF_pi, sF_pl, sF_ai, sF_al, sG_pi, sG_pl, sG_ai, sG_al, sI_pi, sI_pl, sI_al, sI_ai1, sI_ai2, sJ_pi, sJ_pl, sJ_ai, sJ_al1, sJ_al2, Nat.reduceEqDiff, if_true, if_false, ne_eq, not_false_eq_true, ite_true, ite_false]; exact b' i i0 i1⟩
    · rw [sI_ai (by lia) g0]
      simp only [true_and]
      rw [mf_I fr rfl]
  · have t := tt k k0
    have pp := push_m (N := N) (μ := τ) (t := mg μ k) (v := mgv μ k) (by lia) (by lia) t.1 t.2
    rw [ht] at pp
    have key : mm_finish_244 N T (j + 1) n k τ = mm_finish_244 N T j n (k + 1) (md_pi (md_al (md_ai τ 141 (b + k).toNatClampNeg (mg μ k)) 142 (b + k).toNatClampNeg (mgv μ k)) 143 (b + k + 1)) := by
      by_cases d : sF μ 190 ≤ k
      · have e1 : mg μ k = 0 := if_neg (by lia)
        have e2 : mgv μ k = 0 := if_neg (by lia)
        rw [e1, e2] at pp ⊢
        simp (disch := lia) only [mm_finish_244, mm_finish_272, mm_finish_292, lt, gd_in, if_pos, if_neg, ↓reduceIte, gd_z0, gd_z1, gd_tt, sF_fold, sG_fold, sI_fold, sJ_fold, e190, pp, bd]
      · have e1 : mg μ k = sI μ 188 k := if_pos (by lia)
        have e2 : mgv μ k = sJ μ 189 k := if_pos (by lia)
        have i188 : sI τ 188 k = sI μ 188 k := mf_I fr rfl
        have j189 : sJ τ 189 k = sJ μ 189 k := mf_J fr rfl
        rw [e1, e2] at pp ⊢
        simp (disch := lia) only [mm_finish_244, mm_finish_272, mm_finish_292, lt, gd_in, if_pos, if_neg, ↓reduceIte, gd_z0, gd_z1, gd_tt, sF_fold, sG_fold, sI_fold, sJ_fold, e190, i188, j189, pp, bd]
    rw [key]
    exact ih (by lia) _ (mf_pi (mf_al (mf_ai fr rfl) rfl) rfl) (by simp only [sF_pi, sF_pl, sF_ai, sF_al, sG_pi, sG_pl, sG_ai, sG_al, sI_pi, sI_pl, sI_al, sI_ai1, sI_ai2, sJ_pi, sJ_pl, sJ_ai, sJ_al1, sJ_al2, Nat.reduceEqDiff, if_true, if_false, ne_eq, not_false_eq_true, ite_true, ite_false]; lia) (wr1_m hw b0 (by lia) k0 (by lia))
