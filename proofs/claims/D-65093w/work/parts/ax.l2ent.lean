/-! LAYER 2: a script's function is entered: loops -/
theorem xw1_x {σ : mS} {b k : Int32} {gt : Int32 → Int32} {gv : Int32 → Int64} {σ0 : mS} {t : Int32} {v : Int64} (h : wrX b k gt gv σ0 σ) (b0 : 0 ≤ b) (b1 : b ≤ 600000) (k0 : 0 ≤ k) (k1 : k ≤ 3000) (ht : t = gt k) (hv : v = gv k) : wrX b (k + 1) gt gv σ0 (md_al (md_ai σ 364 (b + k).toNatClampNeg t) 365 (b + k).toNatClampNeg v) := by
  subst ht; subst hv
  exact wr1_x (n := k + 1) h b0 b1 k0 k1
theorem en286_lp {N : Nat} {T : ty_xx6_begin} {σ : mS} {g words more b n : Int32} (g0 : 0 ≤ g) (g1 : g < 5400) (b0 : 0 ≤ b) (b1 : b + words ≤ 560000) (bm : b ≤ 560000) (w0 : 0 ≤ words) (w1 : words ≤ 100) (hn : sF σ 399 = n) (n0 : 0 ≤ n) (n1 : n ≤ 145) (tt : ∀ k, 0 ≤ k → k < n → 0 ≤ sI σ 397 k ∧ sI σ 397 k ≤ 8) (j : Nat) (k : Int32) (k0 : 0 ≤ k) (k1 : k ≤ words) (hj : (words.toInt - k.toInt).toNat < j) : ∀ τ : mS, m_fr (fun k => [364, 365].contains k) σ τ → wrX b k (fun k => if k < n then sI σ 397 k else 0) (fun k => if k < n then sJ σ 398 k else 0) σ τ → ∃ υ, xx6_enter_b286 N T j g words more b k τ = xx6_enter_b383 N T N words more (b + sI σ 261 g) 0 υ ∧ m_fr (fun k => [364, 365].contains k) σ υ ∧ wrX b words (fun k => if k < n then sI σ 397 k else 0) (fun k => if k < n then sJ σ 398 k else 0) σ υ := by
  refine loop_up (lo := 0) (m := words) (fun j k => ∀ τ : mS, m_fr (fun k => [364, 365].contains k) σ τ → wrX b k (fun k => if k < n then sI σ 397 k else 0) (fun k => if k < n then sJ σ 398 k else 0) σ τ → ∃ υ, xx6_enter_b286 N T j g words more b k τ = xx6_enter_b383 N T N words more (b + sI σ 261 g) 0 υ ∧ m_fr (fun k => [364, 365].contains k) σ υ ∧ wrX b words (fun k => if k < n then sI σ 397 k else 0) (fun k => if k < n then sJ σ 398 k else 0) σ υ) ?_ j k k0 k1 hj
  clear hj k0 k1 k j
  intro j k k0 k1 ih τ fr wx
  have f399 : sF τ 399 = n := by rw [mf_F fr rfl]; exact hn
  have i261 : sI τ 261 g = sI σ 261 g := mf_I fr rfl
  have i397 : sI τ 397 k = sI σ 397 k := mf_I fr rfl
  have j398 : sJ τ 398 k = sJ σ 398 k := mf_J fr rfl
  by_cases c : words ≤ k
  · have ek : k = words := by lia
    subst ek
    refine ⟨τ, ?_, fr, wx⟩
    simp (disch := lia) only [xx6_enter_b286, lt, gd_in, if_pos, if_neg, ↓reduceIte, gd_z0, gd_z1, gd_tt, sF_fold, sG_fold, sI_fold, sJ_fold, i261]
  · by_cases q : k < n
    · have t := tt k k0 q
      have nt := nar_tg t.1 t.2
      have st : xx6_enter_b286 N T (j + 1) g words more b k τ = xx6_enter_b286 N T j g words more b (k + 1) (md_al (md_ai τ 364 (b + k).toNatClampNeg (sI σ 397 k)) 365 (b + k).toNatClampNeg (sJ σ 398 k)) := by
        simp (disch := lia) only [xx6_enter_b286, xx6_enter_b325, xx6_enter_b358, lt, gd_in, if_pos, if_neg, ↓reduceIte, gd_z0, gd_z1, gd_tt, sF_fold, sG_fold, sI_fold, sJ_fold, sF_pi, sF_pl, sF_ai, sF_al, sG_pi, sG_pl, sG_ai, sG_al, sI_pi, sI_pl, sI_al, sI_ai1, sI_ai2, sJ_pi, sJ_pl, sJ_ai, sJ_al1, sJ_al2, Nat.reduceEqDiff, if_true, if_false, ne_eq, not_false_eq_true, ite_true, ite_false, f399, i397, j398, nt]
      rw [st]
      exact ih (by lia) _ (mf_al (mf_ai fr rfl) rfl) (xw1_x wx b0 (by lia) k0 (by lia) (by rw [if_pos q]) (by rw [if_pos q]))
    · have nt : vp_nar .byte (0 : Int32) = 0 := nar_tg (by decide) (by decide)
      have st : xx6_enter_b286 N T (j + 1) g words more b k τ = xx6_enter_b286 N T j g words more b (k + 1) (md_al (md_ai τ 364 (b + k).toNatClampNeg 0) 365 (b + k).toNatClampNeg 0) := by
        simp (disch := lia) only [xx6_enter_b286, xx6_enter_b325, xx6_enter_b358, lt, gd_in, if_pos, if_neg, ↓reduceIte, gd_z0, gd_z1, gd_tt, sF_fold, sG_fold, sI_fold, sJ_fold, sF_pi, sF_pl, sF_ai, sF_al, sG_pi, sG_pl, sG_ai, sG_al, sI_pi, sI_pl, sI_al, sI_ai1, sI_ai2, sJ_pi, sJ_pl, sJ_ai, sJ_al1, sJ_al2, Nat.reduceEqDiff, if_true, if_false, ne_eq, not_false_eq_true, ite_true, ite_false, f399, nt]
      rw [st]
      exact ih (by lia) _ (mf_al (mf_ai fr rfl) rfl) (xw1_x wx b0 (by lia) k0 (by lia) (by rw [if_neg q]) (by rw [if_neg q]))
theorem en383_lp {N : Nat} {T : ty_xx6_begin} {σ : mS} {words more b n : Int32} (b0 : 0 ≤ b) (b1 : b + more ≤ 560000) (bm : b ≤ 560000) (w0 : 0 ≤ words) (w1 : words ≤ 100) (m1 : more ≤ 145) (m0 : 0 ≤ more) (hm : words + more ≤ 160) (tt : ∀ k, 0 ≤ k → k < more → 0 ≤ sI σ 397 (words + k) ∧ sI σ 397 (words + k) ≤ 8) (j : Nat) (k : Int32) (k0 : 0 ≤ k) (k1 : k ≤ more) (hj : (more.toInt - k.toInt).toNat < j) : ∀ τ : mS, m_fr (fun k => [364, 365].contains k) σ τ → wrX b k (fun k => sI σ 397 (words + k)) (fun k => sJ σ 398 (words + k)) σ τ → ∃ υ, xx6_enter_b383 N T j words more b k τ = some (.ok υ) ∧ m_fr (fun k => [364, 365].contains k) σ υ ∧ wrX b more (fun k => sI σ 397 (words + k)) (fun k => sJ σ 398 (words + k)) σ υ := by
  refine loop_up (lo := 0) (m := more) (fun j k => ∀ τ : mS, m_fr (fun k => [364, 365].contains k) σ τ → wrX b k (fun k => sI σ 397 (words + k)) (fun k => sJ σ 398 (words + k)) σ τ → ∃ υ, xx6_enter_b383 N T j words more b k τ = some (.ok υ) ∧ m_fr (fun k => [364, 365].contains k) σ υ ∧ wrX b more (fun k => sI σ 397 (words + k)) (fun k => sJ σ 398 (words + k)) σ υ) ?_ j k k0 k1 hj
  clear hj k0 k1 k j
  intro j k k0 k1 ih τ fr wx
  have i397 : sI τ 397 (words + k) = sI σ 397 (words + k) := mf_I fr rfl
  have j398 : sJ τ 398 (words + k) = sJ σ 398 (words + k) := mf_J fr rfl
  by_cases c : more ≤ k
  · have ek : k = more := by lia
    subst ek
    refine ⟨τ, ?_, fr, wx⟩
    simp (disch := lia) only [xx6_enter_b383, lt, gd_in, if_pos, if_neg, ↓reduceIte, gd_z0, gd_z1, gd_tt, sF_fold, sG_fold, sI_fold, sJ_fold]
  · have t := tt k k0 (by lia)
    have nt := nar_tg t.1 t.2
    have st : xx6_enter_b383 N T (j + 1) words more b k τ = xx6_enter_b383 N T j words more b (k + 1) (md_al (md_ai τ 364 (b + k).toNatClampNeg (sI σ 397 (words + k))) 365 (b + k).toNatClampNeg (sJ σ 398 (words + k))) := by
      simp (disch := lia) only [xx6_enter_b383, lt, gd_in, if_pos, if_neg, ↓reduceIte, gd_z0, gd_z1, gd_tt, sF_fold, sG_fold, sI_fold, sJ_fold, sF_pi, sF_pl, sF_ai, sF_al, sG_pi, sG_pl, sG_ai, sG_al, sI_pi, sI_pl, sI_al, sI_ai1, sI_ai2, sJ_pi, sJ_pl, sJ_ai, sJ_al1, sJ_al2, Nat.reduceEqDiff, if_true, if_false, ne_eq, not_false_eq_true, ite_true, ite_false, i397, j398, nt]
    rw [st]
    exact ih (by lia) _ (mf_al (mf_ai fr rfl) rfl) (xw1_x wx b0 (by lia) k0 (by lia) rfl rfl)
/-- the reference gathers -/
theorem gather_lp {N : Nat} {μ : mS} {from' n : Int32} (f0 : 0 ≤ from') (f1 : from' ≤ 480000) (n0 : 0 ≤ n) (n1 : n ≤ 300) (tt : ∀ k, 0 ≤ k → k < n → 0 ≤ sI μ 141 (from' + k) ∧ sI μ 141 (from' + k) ≤ 8) (j : Nat) (k : Int32) (k0 : 0 ≤ k) (k1 : k ≤ n) (hj : (n.toInt - k.toInt).toNat < j) : ∀ τ : mS, m_fr (fun k => [188, 189].contains k) μ τ → (∀ i, 0 ≤ i → i < k → sI τ 188 i = sI μ 141 (from' + i) ∧ sJ τ 189 i = sJ μ 142 (from' + i)) → ∃ υ, mm_gather_7 N j from' n k τ = some υ ∧ m_fr (fun k => [188, 189].contains k) μ υ ∧ (∀ i, 0 ≤ i → i < n → sI υ 188 i = sI μ 141 (from' + i) ∧ sJ υ 189 i = sJ μ 142 (from' + i)) := by
  refine loop_up (lo := 0) (m := n) (fun j k => ∀ τ : mS, m_fr (fun k => [188, 189].contains k) μ τ → (∀ i, 0 ≤ i → i < k → sI τ 188 i = sI μ 141 (from' + i) ∧ sJ τ 189 i = sJ μ 142 (from' + i)) → ∃ υ, mm_gather_7 N j from' n k τ = some υ ∧ m_fr (fun k => [188, 189].contains k) μ υ ∧ (∀ i, 0 ≤ i → i < n → sI υ 188 i = sI μ 141 (from' + i) ∧ sJ υ 189 i = sJ μ 142 (from' + i))) ?_ j k k0 k1 hj
  clear hj k0 k1 k j
  intro j k k0 k1 ih τ fr hh
  have i1 : sI τ 141 (from' + k) = sI μ 141 (from' + k) := mf_I fr rfl
  have j1 : sJ τ 142 (from' + k) = sJ μ 142 (from' + k) := mf_J fr rfl
  by_cases c : n ≤ k
  · have ek : k = n := by lia
    subst ek
    refine ⟨τ, ?_, fr, hh⟩
    simp (disch := lia) only [mm_gather_7, lt, gd_in, if_pos, if_neg, ↓reduceIte, gd_z0, gd_z1, gd_tt, sF_fold, sG_fold, sI_fold, sJ_fold]
  · have t := tt k k0 (by lia)
    have nt := nar_tg t.1 t.2
    have st : mm_gather_7 N (j + 1) from' n k τ = mm_gather_7 N j from' n (k + 1) (md_al (md_ai τ 188 k.toNatClampNeg (sI μ 141 (from' + k))) 189 k.toNatClampNeg (sJ μ 142 (from' + k))) := by
      simp (disch := lia) only [mm_gather_7, lt, gd_in, if_pos, if_neg, ↓reduceIte, gd_z0, gd_z1, gd_tt, sF_fold, sG_fold, sI_fold, sJ_fold, sF_pi, sF_pl, sF_ai, sF_al, sG_pi, sG_pl, sG_ai, sG_al, sI_pi, sI_pl, sI_al, sI_ai1, sI_ai2, sJ_pi, sJ_pl, sJ_ai, sJ_al1, sJ_al2, Nat.reduceEqDiff, if_true, if_false, ne_eq, not_false_eq_true, ite_true, ite_false, i1, j1, nt]
    rw [st]
    refine ih (by lia) _ (mf_al (mf_ai fr rfl) rfl) (fun i i0 i1' => ?_)
    simp (disch := lia) only [sF_pi, sF_pl, sF_ai, sF_al, sG_pi, sG_pl, sG_ai, sG_al, sI_pi, sI_pl, sI_al, sI_ai1, sI_ai2, sJ_pi, sJ_pl, sJ_ai, sJ_al1, sJ_al2, Nat.reduceEqDiff, if_true, if_false, ne_eq, not_false_eq_true, ite_true, ite_false, sI_ai k0 i0, sJ_al k0 i0, true_and]
    by_cases q : i = k
    · subst q; rw [if_pos rfl, if_pos rfl]; exact ⟨rfl, rfl⟩
    · rw [if_neg q, if_neg q]; exact hh i i0 (by lia)
theorem gather_m {N : Nat} (hN : BIG ≤ N) {μ : mS} {from' n : Int32} (f0 : 0 ≤ from') (f1 : from' ≤ 480000) (n0 : 0 ≤ n) (n1 : n ≤ 300) (tt : ∀ k, 0 ≤ k → k < n → 0 ≤ sI μ 141 (from' + k) ∧ sI μ 141 (from' + k) ≤ 8) : ∃ υ, mm_gather N μ from' n = some υ ∧ m_fr vM μ υ ∧ sF υ 190 = n ∧ (∀ i, 0 ≤ i → i < n → sI υ 188 i = sI μ 141 (from' + i) ∧ sJ υ 189 i = sJ μ 142 (from' + i)) := by
  have fr0 : m_fr vM μ (md_pi μ 190 n) := mf_pi mf_rfl rfl
  obtain ⟨υ, a1, a2, a3⟩ := gather_lp (N := N) (μ := md_pi μ 190 n) f0 f1 n0 n1 (fun k k0 k1 => by simp only [sF_pi, sF_pl, sF_ai, sF_al, sG_pi, sG_pl, sG_ai, sG_al, sI_pi, sI_pl, sI_al, sI_ai1, sI_ai2, sJ_pi, sJ_pl, sJ_ai, sJ_al1, sJ_al2, Nat.reduceEqDiff, if_true, if_false, ne_eq, not_false_eq_true, ite_true, ite_false]; exact tt k k0 k1) N 0 (by decide) n0 (big_d hN) (md_pi μ 190 n) mf_rfl (fun i i0 i1 => by exfalso; lia)
  refine ⟨υ, ?_, mf_tr fr0 (mf_mono a2 (fun k hk => ?_)), ?_, fun i i0 i1 => ?_⟩
  · simp only [mm_gather, lt]; exact a1
  · simp only [vM, List.contains_cons, List.contains_nil, Bool.or_eq_false_iff, beq_eq_false_iff_ne] at hk ⊢
    (repeat' (first | exact trivial | omega | apply And.intro))
  · rw [mf_F a2 rfl]; simp only [sF_pi, sF_pl, sF_ai, sF_al, sG_pi, sG_pl, sG_ai, sG_al, sI_pi, sI_pl, sI_al, sI_ai1, sI_ai2, sJ_pi, sJ_pl, sJ_ai, sJ_al1, sJ_al2, Nat.reduceEqDiff, if_true, if_false, ne_eq, not_false_eq_true, ite_true, ite_false]
  · have := a3 i i0 i1
    simp only [sF_pi, sF_pl, sF_ai, sF_al, sG_pi, sG_pl, sG_ai, sG_al, sI_pi, sI_pl, sI_al, sI_ai1, sI_ai2, sJ_pi, sJ_pl, sJ_ai, sJ_al1, sJ_al2, Nat.reduceEqDiff, if_true, if_false, ne_eq, not_false_eq_true, ite_true, ite_false] at this
    exact this
theorem es126_lp {N : Nat} {σ : mS} {w n b v7 v8 v9 v10 : Int32} (b0 : 0 ≤ b) (b1 : b ≤ 480000) (w0 : 0 ≤ w) (n1 : n ≤ 145) (wn : w ≤ n) (tt : ∀ k, 0 ≤ k → k < n → 0 ≤ sI σ 188 k ∧ sI σ 188 k ≤ 8) (j : Nat) (i : Int32) (i0 : w ≤ i) (i1 : i ≤ n) (hj : (n.toInt - i.toInt).toNat < j) : ∀ τ : mS, m_fr cM σ τ → sF τ 143 = b + (i - w) → wrM b (i - w) (fun k => sI σ 188 (w + k)) (fun k => sJ σ 189 (w + k)) σ τ → ∃ υ, mm_enterScript_126 N j n v7 v8 v9 v10 i τ = mm_enterScript_159 N N v7 v8 v9 v10 0 υ ∧ m_fr cM σ υ ∧ sF υ 143 = b + (n - w) ∧ wrM b (n - w) (fun k => sI σ 188 (w + k)) (fun k => sJ σ 189 (w + k)) σ υ := by
  refine loop_up (lo := w) (m := n) (fun j i => ∀ τ : mS, m_fr cM σ τ → sF τ 143 = b + (i - w) → wrM b (i - w) (fun k => sI σ 188 (w + k)) (fun k => sJ σ 189 (w + k)) σ τ → ∃ υ, mm_enterScript_126 N j n v7 v8 v9 v10 i τ = mm_enterScript_159 N N v7 v8 v9 v10 0 υ ∧ m_fr cM σ υ ∧ sF υ 143 = b + (n - w) ∧ wrM b (n - w) (fun k => sI σ 188 (w + k)) (fun k => sJ σ 189 (w + k)) σ υ) ?_ j i i0 i1 hj
  clear hj i0 i1 i j
  intro j i i0 i1 ih τ fr f143 wm
  have e1 : sI τ 188 i = sI σ 188 i := mf_I fr rfl
  have e2 : sJ τ 189 i = sJ σ 189 i := mf_J fr rfl
  by_cases c : n ≤ i
  · have ek : i = n := by lia
    subst ek
    refine ⟨τ, ?_, fr, f143, wm⟩
    simp (disch := lia) only [mm_enterScript_126, lt, gd_in, if_pos, if_neg, ↓reduceIte, gd_z0, gd_z1, gd_tt, sF_fold, sG_fold, sI_fold, sJ_fold]
  · have t := tt i (by lia) (by lia)
    have st : mm_enterScript_126 N (j + 1) n v7 v8 v9 v10 i τ = mm_enterScript_126 N j n v7 v8 v9 v10 (i + 1) (md_pi (md_al (md_ai τ 141 (b + (i - w)).toNatClampNeg (sI σ 188 i)) 142 (b + (i - w)).toNatClampNeg (sJ σ 189 i)) 143 (b + (i - w) + 1)) := by
      have pm := push_m (N := N) (μ := τ) (t := sI σ 188 i) (v := sJ σ 189 i) (by lia) (by lia) t.1 t.2
      rw [f143] at pm
      simp (disch := lia) only [mm_enterScript_126, lt, gd_in, if_pos, if_neg, ↓reduceIte, gd_z0, gd_z1, gd_tt, sF_fold, sG_fold, sI_fold, sJ_fold, e1, e2, pm, bd]
    rw [st]
    have ew : i + 1 - w = i - w + 1 := by lia
    refine ih (by lia) _ (mf_pi (mf_al (mf_ai fr rfl) rfl) rfl) (by simp only [sF_pi, sF_pl, sF_ai, sF_al, sG_pi, sG_pl, sG_ai, sG_al, sI_pi, sI_pl, sI_al, sI_ai1, sI_ai2, sJ_pi, sJ_pl, sJ_ai, sJ_al1, sJ_al2, Nat.reduceEqDiff, if_true, if_false, ne_eq, not_false_eq_true, ite_true, ite_false]; lia) ?_
    rw [ew]
    have := wr1_m (t := b + (i - w) + 1) wm b0 (by lia) (by lia) (by lia)
    simp only [show w + (i - w) = i by lia] at this
    exact this
theorem es159_lp {N : Nat} {σ : mS} {n b v8 v9 v10 : Int32} (b0 : 0 ≤ b) (b1 : b ≤ 480000) (n0 : 0 ≤ n) (n1 : n ≤ 145) (tt : ∀ k, 0 ≤ k → k < n → 0 ≤ sI σ 188 k ∧ sI σ 188 k ≤ 8) (j : Nat) (i : Int32) (i0 : 0 ≤ i) (i1 : i ≤ n) (hj : (n.toInt - i.toInt).toNat < j) : ∀ τ : mS, m_fr cM σ τ → sF τ 143 = b + i → wrM b i (sI σ 188) (sJ σ 189) σ τ → ∃ υ, mm_enterScript_159 N j n v8 v9 v10 i τ = mm_enterScript_232 N v8 v9 v10 υ ∧ m_fr cM σ υ ∧ sF υ 143 = b + n ∧ wrM b n (sI σ 188) (sJ σ 189) σ υ := by
  refine loop_up (lo := 0) (m := n) (fun j i => ∀ τ : mS, m_fr cM σ τ → sF τ 143 = b + i → wrM b i (sI σ 188) (sJ σ 189) σ τ → ∃ υ, mm_enterScript_159 N j n v8 v9 v10 i τ = mm_enterScript_232 N v8 v9 v10 υ ∧ m_fr cM σ υ ∧ sF υ 143 = b + n ∧ wrM b n (sI σ 188) (sJ σ 189) σ υ) ?_ j i i0 i1 hj
  clear hj i0 i1 i j
  intro j i i0 i1 ih τ fr f143 wm
  have e1 : sI τ 188 i = sI σ 188 i := mf_I fr rfl
  have e2 : sJ τ 189 i = sJ σ 189 i := mf_J fr rfl
  by_cases c : n ≤ i
  · have ek : i = n := by lia
    subst ek
    refine ⟨τ, ?_, fr, f143, wm⟩
    simp (disch := lia) only [mm_enterScript_159, lt, gd_in, if_pos, if_neg, ↓reduceIte, gd_z0, gd_z1, gd_tt, sF_fold, sG_fold, sI_fold, sJ_fold]
  · have t := tt i (by lia) (by lia)
    have st : mm_enterScript_159 N (j + 1) n v8 v9 v10 i τ = mm_enterScript_159 N j n v8 v9 v10 (i + 1) (md_pi (md_al (md_ai τ 141 (b + i).toNatClampNeg (sI σ 188 i)) 142 (b + i).toNatClampNeg (sJ σ 189 i)) 143 (b + i + 1)) := by
      have pm := push_m (N := N) (μ := τ) (t := sI σ 188 i) (v := sJ σ 189 i) (by lia) (by lia) t.1 t.2
      rw [f143] at pm
      simp (disch := lia) only [mm_enterScript_159, lt, gd_in, if_pos, if_neg, ↓reduceIte, gd_z0, gd_z1, gd_tt, sF_fold, sG_fold, sI_fold, sJ_fold, e1, e2, pm, bd]
    rw [st]
    exact ih (by lia) _ (mf_pi (mf_al (mf_ai fr rfl) rfl) rfl) (by simp only [sF_pi, sF_pl, sF_ai, sF_al, sG_pi, sG_pl, sG_ai, sG_al, sI_pi, sI_pl, sI_al, sI_ai1, sI_ai2, sJ_pi, sJ_pl, sJ_ai, sJ_al1, sJ_al2, Nat.reduceEqDiff, if_true, if_false, ne_eq, not_false_eq_true, ite_true, ite_false]; lia) (wr1_m (t := b + i + 1) wm b0 (by lia) (by lia) (by lia))
theorem es211_lp {N : Nat} {σ : mS} {m b w v8 v9 : Int32} (b0 : 0 ≤ b) (b1 : b ≤ 480000) (w1 : w ≤ 145) (m0 : 0 ≤ m) (mw : m ≤ w) (j : Nat) (i : Int32) (i0 : m ≤ i) (i1 : i ≤ w) (hj : (w.toInt - i.toInt).toNat < j) : ∀ τ : mS, m_fr cM σ τ → sF τ 143 = b + i → wrM (b + m) (i - m) (fun _ => 0) (fun _ => 0) σ τ → ∃ υ, mm_enterScript_211 N j w v8 v9 b τ = mm_enterScript_232 N v8 v9 b υ ∧ m_fr cM σ υ ∧ sF υ 143 = b + w ∧ wrM (b + m) (w - m) (fun _ => 0) (fun _ => 0) σ υ := by
  refine loop_up (lo := m) (m := w) (fun j i => ∀ τ : mS, m_fr cM σ τ → sF τ 143 = b + i → wrM (b + m) (i - m) (fun _ => 0) (fun _ => 0) σ τ → ∃ υ, mm_enterScript_211 N j w v8 v9 b τ = mm_enterScript_232 N v8 v9 b υ ∧ m_fr cM σ υ ∧ sF υ 143 = b + w ∧ wrM (b + m) (w - m) (fun _ => 0) (fun _ => 0) σ υ) ?_ j i i0 i1 hj
  clear hj i0 i1 i j
  intro j i i0 i1 ih τ fr f143 wm
  by_cases c : w ≤ i
  · have ek : i = w := by lia
    subst ek
    refine ⟨τ, ?_, fr, f143, wm⟩
    simp (disch := lia) only [mm_enterScript_211, lt, gd_in, if_pos, if_neg, ↓reduceIte, gd_z0, gd_z1, gd_tt, sF_fold, sG_fold, sI_fold, sJ_fold, f143]
  · have st : mm_enterScript_211 N (j + 1) w v8 v9 b τ = mm_enterScript_211 N j w v8 v9 b (md_pi (md_al (md_ai τ 141 (b + i).toNatClampNeg 0) 142 (b + i).toNatClampNeg 0) 143 (b + i + 1)) := by
      have pm := push_m (N := N) (μ := τ) (t := 0) (v := 0) (by lia) (by lia) (by decide) (by decide)
      rw [f143] at pm
      simp (disch := lia) only [mm_enterScript_211, lt, gd_in, if_pos, if_neg, ↓reduceIte, gd_z0, gd_z1, gd_tt, sF_fold, sG_fold, sI_fold, sJ_fold, f143, pm, bd]
    rw [st]
    have ew : i + 1 - m = i - m + 1 := by lia
    refine ih (by lia) _ (mf_pi (mf_al (mf_ai fr rfl) rfl) rfl) (by simp only [sF_pi, sF_pl, sF_ai, sF_al, sG_pi, sG_pl, sG_ai, sG_al, sI_pi, sI_pl, sI_al, sI_ai1, sI_ai2, sJ_pi, sJ_pl, sJ_ai, sJ_al1, sJ_al2, Nat.reduceEqDiff, if_true, if_false, ne_eq, not_false_eq_true, ite_true, ite_false]; lia) ?_
    rw [ew]
    have := wr1_m (t := b + i + 1) wm (by lia) (by lia) (by lia) (by lia)
    simp only [show b + m + (i - m) = b + i by lia] at this
    exact this
