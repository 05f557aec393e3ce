/-! LAYER 2: tokens: numbers -/
def fNx (k : Nat) : Bool := [707, 710, 713].contains k
def fNm (k : Nat) : Bool := [60, 62, 64].contains k
/-- a number that was read, or none -/
def NQ (n p : Int32) (σ μ : mS) (X Y : Option mS) : Prop := ∃ σ' μ', X = some σ' ∧ Y = some μ' ∧ ((sF σ' 707 = 3 ∧ sF μ' 60 = 3 ∧ sG σ' 710 = sG μ' 64) ∨ (sF σ' 707 = 1 ∧ sF μ' 60 = 1)) ∧ (sF σ' 713 = sF μ' 62 ∧ p < sF σ' 713 ∧ sF σ' 713 ≤ n) ∧ m_fr fNx σ σ' ∧ m_fr fNm μ μ'
theorem NQ_tr {n p : Int32} {σ0 μ σ : mS} {X Y : Option mS} (f : m_fr fNx σ0 σ) (h : NQ n p σ μ X Y) : NQ n p σ0 μ X Y := by
  obtain ⟨σ', μ', e1, e2, e3, e4, e5, e6⟩ := h
  exact ⟨σ', μ', e1, e2, e3, e4, mf_tr f e5, e6⟩
/-- where no number is -/
theorem num_n {N : Nat} {n p y : Int32} {σ μ : mS} (hy : y = 0) (h1 : sF σ 708 = p) (g1 : sF μ 62 = p + 1) (g2 : sF μ 60 = 1) (hp : p < p + 1 ∧ p + 1 ≤ n) : NQ n p σ μ (xx11_number_b276 N y σ) (some μ) := by
  subst hy
  rw [xx11_number_b276, if_pos rfl, xx11_number_b287]
  simp only [lt, sF_fold]
  rw [if_pos trivial, xx11_number_b308]
  refine ⟨_, μ, rfl, rfl, .inr ⟨rfl, g2⟩, ?_, mf_pi (mf_pi mf_rfl rfl) rfl, mf_rfl⟩
  rw [sF_pi, if_pos rfl, show sF (md_pi σ 707 1) 708 = p from h1]
  exact ⟨g1.symm, hp⟩
theorem num_y {N : Nat} {n p v : Int32} {x : Int64} {σ μ : mS} (h2 : sF σ 713 = v) (h3 : sG σ 710 = x) (hp : p < v ∧ v ≤ n) : NQ n p σ μ (xx11_number_b276 N 1 σ) (some (md_pi (md_pl (md_pi μ 60 3) 64 x) 62 v)) := by
  rw [xx11_number_b276, if_neg (by decide), xx11_number_b287]
  simp only [lt, sF_fold]
  rw [if_neg (by decide), xx11_number_b308]
  refine ⟨_, _, rfl, rfl, .inl ⟨rfl, rfl, h3⟩, ?_, mf_pi (mf_pi mf_rfl rfl) rfl, mf_pi (mf_pl (mf_pi mf_rfl rfl) rfl) rfl⟩
  rw [sF_pi, if_pos rfl, show sF (md_pi σ 707 3) 713 = v from h2]
  exact ⟨rfl, hp⟩
/-- the end of a number's digits -/
theorem num_e {N : Nat} {n p b v w : Int32} {x : Int64} {t : Int32 → Int32} {σ μ : mS} (T : TXo n t) (X : TXx n t σ) (Y : TXm n t μ) (v0 : 0 ≤ v) (h1 : sF σ 708 = p) (h2 : sF σ 713 = v) (h3 : sG σ 710 = x) (g1 : sF μ 62 = p + 1) (g2 : sF μ 60 = 1) (bv : b < v) (hp : p < v ∧ v ≤ n) (hq : p < p + 1 ∧ p + 1 ≤ n) : NQ n p σ μ (xx11_number_b218 N w b σ) (mm_readDigits_136 N v x w μ) := by
  rw [xx11_number_b218, mm_readDigits_136, sg_t T Y v0]
  simp only [bd, lt_m, dgt_m, lt_t, dg_t, sF_fold]
  by_cases c : w = 0
  · rw [if_pos c, if_pos c]
    exact num_n rfl h1 g1 g2 hq
  rw [if_neg c, if_neg c, h2, if_neg (Int32.not_le.mpr bv), at_t T X v0]
  simp only [lt_t]
  by_cases c1 : isLt (t v) = true
  · rw [if_neg (fun q => b01_0.mp q c1), if_neg (fun q => b01_0.mp q c1)]
    exact num_n rfl h1 g1 g2 hq
  rw [if_pos (b01_0.mpr c1), if_pos (b01_0.mpr c1), h2, at_t T X v0]
  simp only [dg_t]
  by_cases c2 : isDg (t v) = true
  · rw [if_neg (fun q => b01_0.mp q c2), if_neg (fun q => b01_0.mp q c2)]
    exact num_n rfl h1 g1 g2 hq
  rw [if_pos (b01_0.mpr c2), if_pos (b01_0.mpr c2), h2, at_t T X v0]
  simp only
  by_cases c3 : t v = 46
  · rw [if_pos c3, if_pos c3]
    exact num_n rfl h1 g1 g2 hq
  rw [if_neg c3, if_neg c3]
  exact num_y h2 h3 hp
/-- digits of ten -/
theorem num_d {N : Nat} {n p b : Int32} {t : Int32 → Int32} {μ : mS} (T : TXo n t) (Y : TXm n t μ) (p0 : 0 ≤ p) (g1 : sF μ 62 = p + 1) (g2 : sF μ 60 = 1) (hq : p < p + 1 ∧ p + 1 ≤ n) : ∀ (j : Nat) (v w : Int32) (x : Int64) (σ : mS), TXx n t σ → sF σ 708 = p → sF σ 713 = v → sG σ 710 = x → p ≤ v → v ≤ n → (b < v ∧ p < v ∨ b = p ∧ v = p ∧ isDg (t v) = true) → (n.toInt - v.toInt).toNat < j → NQ n p σ μ (xx11_number_b82 N j 0 w b σ) (mm_readDigits_71 N j v x w μ) := by
  intro j
  induction j with
  | zero => intro v w x σ _ _ _ _ _ _ _ h; omega
  | succ j ih =>
    intro v w x σ X h1 h2 h3 pv vn hb hj
    have v0 := Int32.le_trans p0 pv
    rw [xx11_number_b82, mm_readDigits_71, if_pos rfl, sg_t T Y v0]
    simp only [bd, sF_fold, dgt_m]
    rw [h2, at_t T X v0]
    simp only [dg_t]
    by_cases c : isDg (t v) = true
    · have l := es_dg T vn c
      have e := qd_b v0 T.1.2 l
      have hb' : b < v + 1 ∧ p < v + 1 := hb.elim (fun q => ⟨Int32.lt_trans q.1 e.2.2.1, Int32.lt_trans q.2 e.2.2.1⟩) (fun q => by rw [q.1, ← q.2.1]; exact ⟨e.2.2.1, e.2.2.1⟩)
      have st : ∀ (w' : Int32) (y : Int64), NQ n p σ μ (xx11_number_b82 N j 0 w' b (md_pi (md_pl σ 710 y) 713 (v + 1))) (mm_readDigits_71 N j (v + 1) y w' μ) := fun w' y => NQ_tr (mf_pi (mf_pl mf_rfl rfl) rfl) (ih (v + 1) w' y (md_pi (md_pl σ 710 y) 713 (v + 1)) (TXx_fr X (mf_pi (P := fNx) (mf_pl mf_rfl rfl) rfl) rfl rfl rfl) h1 rfl rfl (Int32.le_of_lt hb'.2) e.2.1 (.inl hb') (by clear ih; omega))
      rw [if_neg (fun q => b01_0.mp q c), if_neg (fun q => b01_0.mp q c), xx11_number_b117, if_pos rfl, sg_t T Y v0]
      simp only [bd, lt, sF_fold, sG_fold]
      rw [h2, at_t T X v0]
      simp only [h3]
      by_cases cw : w = 0
      · rw [if_pos cw, if_pos cw, xx11_number_b187, xx11_number_b188]
        simp only [lt, xx11_number_b205, sF_fold, sG_fold]
        rw [h3, show sF (md_pl σ 710 (x * 10 + Int32.toInt64 (t v - 48))) 713 = v from h2]
        exact st 0 _
      · rw [if_neg cw, if_neg cw, gd_of (by decide), gd_of (by decide)]
        by_cases cx : 0 < lg_cmp x ((9223372036854775807 - Int32.toInt64 (t v - 48)) / 10)
        · rw [if_pos cx, if_pos cx, xx11_number_b187, xx11_number_b188]
          simp only [lt, xx11_number_b205, sF_fold, sG_fold]
          rw [h3, show sF (md_pl σ 710 (x * 10 + Int32.toInt64 (t v - 48))) 713 = v from h2]
          exact st 0 _
        · rw [if_neg cx, if_neg cx, xx11_number_b188]
          simp only [lt, xx11_number_b205, sF_fold, sG_fold]
          rw [h3, show sF (md_pl σ 710 (x * 10 + Int32.toInt64 (t v - 48))) 713 = v from h2]
          exact st 1 _
    · rw [if_pos (b01_0.mpr c), if_pos (b01_0.mpr c)]
      rcases hb with hb | hb
      · exact num_e T X Y v0 h1 h2 h3 g1 g2 hb.1 ⟨hb.2, vn⟩ hq
      · exact absurd hb.2.2 c
/-- digits of sixteen -/
theorem num_x {N : Nat} {n p b : Int32} {t : Int32 → Int32} {μ : mS} (T : TXo n t) (Y : TXm n t μ) (p0 : 0 ≤ p) (g1 : sF μ 62 = p + 1) (g2 : sF μ 60 = 1) (hq : p < p + 1 ∧ p + 1 ≤ n) (pb : p < b) : ∀ (j : Nat) (v : Int32) (x : Int64) (σ : mS), TXx n t σ → sF σ 708 = p → sF σ 713 = v → sG σ 710 = x → b ≤ v → v ≤ n → (b < v ∨ ¬ wth (t v) < 0) → (n.toInt - v.toInt).toNat < j → NQ n p σ μ (xx11_number_b82 N j 1 1 b σ) (mm_readDigits_40 N j v x 1 μ) := by
  intro j
  induction j with
  | zero => intro v x σ _ _ _ _ _ _ _ h; omega
  | succ j ih =>
    intro v x σ X h1 h2 h3 bv vn hb hj
    have v0 := Int32.le_trans p0 (Int32.le_trans (Int32.le_of_lt pb) bv)
    rw [xx11_number_b82, mm_readDigits_40, if_neg (by decide), sg_t T Y v0]
    simp only [bd, sF_fold, wot_m]
    rw [h2, at_t T X v0]
    simp only [wo_t]
    by_cases c : wth (t v) < 0
    · rw [if_pos c, if_pos c]
      rcases hb with hb | hb
      · exact num_e T X Y v0 h1 h2 h3 g1 g2 hb ⟨Int32.lt_trans pb hb, vn⟩ hq
      · exact absurd c hb
    · have l := es_in T vn c
      have e := qd_b v0 T.1.2 l
      have hb' : b < v + 1 := Int32.lt_of_le_of_lt bv e.2.2.1
      rw [if_neg c, if_neg c, xx11_number_b117, if_neg (by decide), sg_t T Y v0]
      simp only [bd, lt, sF_fold, sG_fold, wot_m]
      rw [h2, at_t T X v0]
      simp only [wo_t, h3, xx11_number_b205, lt, sF_fold]
      generalize x <<< (Int32.toInt64 4 &&& 63) ||| Int32.toInt64 (wth (t v)) = y
      rw [show sF (md_pl σ 710 y) 713 = v from h2]
      exact NQ_tr (mf_pi (mf_pl mf_rfl rfl) rfl) (ih (v + 1) y (md_pi (md_pl σ 710 y) 713 (v + 1)) (TXx_fr X (mf_pi (P := fNx) (mf_pl mf_rfl rfl) rfl) rfl rfl rfl) h1 rfl rfl (Int32.le_of_lt hb') e.2.1 (.inl hb') (by clear ih; omega))
def b0F (t : Int32 → Int32) (p : Int32) : Bool := decide (t p = 48 ∧ (t (p + 1) = 120 ∨ t (p + 1) = 88))
theorem b0_m {N : Nat} {n p : Int32} {t : Int32 → Int32} {μ : mS} (T : TXo n t) (Y : TXm n t μ) (p0 : 0 ≤ p) (p1 : 0 ≤ p + 1) (h : sF μ 58 = p) : mm_b0 N μ = some (b01 (b0F t p), μ) := by
  rw [mm_b0]
  simp only [sF_fold]
  rw [h, sg_t T Y p0]
  simp only [bd]
  by_cases c : t p = 48
  · rw [if_pos c]
    rw [h, sg_t T Y p1]
    simp only
    by_cases c1 : t (p + 1) = 120
    · rw [if_pos c1, show b0F t p = true from by rw [b0F, c, c1]; decide]
      rfl
    · rw [if_neg c1]
      rw [h, sg_t T Y p1]
      simp only
      by_cases c2 : t (p + 1) = 88
      · rw [if_pos c2, show b0F t p = true from by rw [b0F, c, c2]; decide]
        rfl
      · rw [if_neg c2, show b0F t p = false from by rw [b0F, decide_eq_false_iff_not]; exact fun q => q.2.elim c1 c2]
        rfl
  · rw [if_neg c, show b0F t p = false from by rw [b0F, decide_eq_false_iff_not]; exact fun q => c q.1]
    rfl
theorem num_s {N : Nat} {n p : Int32} {t : Int32 → Int32} {σ : mS} (T : TXo n t) (X : TXx n t σ) (p0 : 0 ≤ p) (p1 : 0 ≤ p + 1) (h : sF σ 708 = p) : xx11_number N σ = if b0F t p = true then xx11_number_b48 N 1 σ else xx11_number_b48 N 0 σ := by
  rw [xx11_number]
  simp only [sF_fold]
  rw [h, at_t T X p0]
  simp only [bd]
  by_cases c : t p = 48
  · rw [if_pos c]
    rw [h, at_t T X p1]
    simp only
    by_cases c1 : t (p + 1) = 120
    · rw [if_pos c1, if_pos (show b0F t p = true from by rw [b0F, c, c1]; decide)]
      rfl
    · rw [if_neg c1]
      rw [h, at_t T X p1]
      simp only
      by_cases c2 : t (p + 1) = 88
      · rw [if_pos c2, if_pos (show b0F t p = true from by rw [b0F, c, c2]; decide)]
        rfl
      · rw [if_neg c2, if_neg (show ¬ b0F t p = true from by rw [b0F, decide_eq_true_eq]; exact fun q => q.2.elim c1 c2)]
        rfl
  · rw [if_neg c, if_neg (show ¬ b0F t p = true from by rw [b0F, decide_eq_true_eq]; exact fun q => c q.1)]
    rfl
theorem nm_i {p n : Int32} (p0 : 0 ≤ p) (h : p + 1 < n) (n1 : n ≤ 8000) (pn : p < n) : 0 ≤ p + 2 ∧ p + 2 ≤ n ∧ p < p + 2 := by refine ⟨?_, ?_, ?_⟩ <;> lia
theorem dig_1 {K j : Nat} {n v w : Int32} {x : Int64} {t : Int32 → Int32} {μ : mS} (T : TXo n t) (Y : TXm n t μ) (v0 : 0 ≤ v) (a : isLt (t v) = true) (b : ¬ isDg (t v) = true) : mm_readDigits_71 K (j + 1) v x w μ = some μ := by
  rw [mm_readDigits_71, sg_t T Y v0]
  simp only [bd, dgt_m]
  rw [if_pos (b01_0.mpr b), mm_readDigits_136, sg_t T Y v0]
  simp only [bd, lt_m]
  by_cases c : w = 0
  · rw [if_pos c]; rfl
  · rw [if_neg c, if_neg (fun q => b01_0.mp q a)]; rfl
theorem dig_00 {K J : Nat} {n p : Int32} {x : Int64} {t : Int32 → Int32} {μ : mS} (T : TXo n t) (Y : TXm n t μ) (p0 : 0 ≤ p) (p1 : 0 ≤ p + 1) (d : isDg (t p) = true) (a : isLt (t (p + 1)) = true) (b : ¬ isDg (t (p + 1)) = true) : mm_readDigits_71 K (J + 1 + 1) p x 1 μ = some μ := by
  have q := fun (y : Int64) (w : Int32) => dig_1 (K := K) (j := J) (v := p + 1) (w := w) (x := y) T Y p1 a b
  rw [mm_readDigits_71, sg_t T Y p0]
  simp only [bd, dgt_m]
  rw [if_neg (fun q => b01_0.mp q d), sg_t T Y p0]
  simp only [lt]
  rw [if_neg (show ¬ (1 : Int32) = 0 by decide), gd_of (by decide)]
  generalize mm_readDigits_71 K (J + 1) = F at q
  generalize lg_cmp _ _ = y
  by_cases c : 0 < y
  · rw [if_pos c]
    exact q _ _
  · rw [if_neg c]
    exact q _ _
/-- 0x without digits behind: no number -/
theorem dig_0 {N : Nat} (hN : BIG ≤ N) {n p : Int32} {t : Int32 → Int32} {μ : mS} (T : TXo n t) (Y : TXm n t μ) (p0 : 0 ≤ p) (p1 : 0 ≤ p + 1) (d : isDg (t p) = true) (a : isLt (t (p + 1)) = true) (b : ¬ isDg (t (p + 1)) = true) : mm_readDigits_71 N N p 0 1 μ = some μ := by
  obtain ⟨M, hM⟩ : ∃ M, N = M + 1 + 1 := ⟨N - 2, by have : 2 ≤ N := Nat.le_trans (by decide) hN; omega⟩
  have k := dig_00 (K := N) (J := M) (x := 0) T Y p0 p1 d a b
  rw [← hM] at k
  exact k
theorem num_z {N : Nat} (hN : BIG ≤ N) {n p b : Int32} {t : Int32 → Int32} {σ μ : mS} (T : TXo n t) (X : TXx n t σ) (b0 : 0 ≤ b) (h1 : sF σ 708 = p) (h2 : sF σ 713 = b) (d : wth (t b) < 0) (g1 : sF μ 62 = p + 1) (g2 : sF μ 60 = 1) (hq : p < p + 1 ∧ p + 1 ≤ n) : NQ n p σ μ (xx11_number_b82 N N 1 1 b σ) (some μ) := by
  obtain ⟨M, hM⟩ : ∃ M, N = M + 1 := ⟨N - 1, by have : 1 ≤ N := Nat.le_trans (by decide) hN; omega⟩
  have k : ∀ K, NQ n p σ μ (xx11_number_b82 K N 1 1 b σ) (some μ) := fun K => by
    rw [hM, xx11_number_b82, if_neg (by decide)]
    simp only [sF_fold]
    rw [h2, at_t T X b0]
    simp only [bd, wo_t]
    rw [if_pos d, xx11_number_b218, if_neg (by decide)]
    simp only [sF_fold]
    rw [h2, if_pos (Int32.le_refl _)]
    exact num_n rfl h1 g1 g2 hq
  exact k N
/-- a number -/
theorem number_2 {N : Nat} (hN : BIG ≤ N) {n p : Int32} {t : Int32 → Int32} {σ μ : mS} (T : TXo n t) (X : TXx n t σ) (Y : TXm n t μ) (p0 : 0 ≤ p) (pn : p ≤ n) (hd : isDg (t p) = true) (h1 : sF σ 708 = p) (g0 : sF μ 58 = p) (g1 : sF μ 62 = p + 1) (g2 : sF μ 60 = 1) : NQ n p σ μ (xx11_number N σ) (mm_readDigits N μ) := by
  have l := es_dg T pn hd
  have e := qd_b p0 T.1.2 l
  have dec : NQ n p σ μ (xx11_number_b48 N 0 σ) (mm_readDigits_71 N N p 0 1 μ) := by
    rw [xx11_number_b48]
    simp only [lt, sF_fold]
    rw [if_pos trivial, xx11_number_b74, show sF (md_pl σ 710 0) 708 = p from h1]
    simp only [lt, sF_fold]
    exact NQ_tr (mf_pi (mf_pl mf_rfl rfl) rfl) (num_d T Y p0 g1 g2 ⟨e.2.2.1, e.2.1⟩ N p 1 0 (md_pi (md_pl σ 710 0) 713 p) (TXx_fr X (mf_pi (P := fNx) (mf_pl mf_rfl rfl) rfl) rfl rfl rfl) h1 rfl rfl (Int32.le_refl _) pn (.inr ⟨rfl, rfl, hd⟩) (big_d hN))
  rw [num_s T X p0 e.1 h1, mm_readDigits]
  simp only [lt, sF_fold]
  rw [b0_m T Y p0 e.1 g0, g0]
  simp only [bd, sF_fold]
  by_cases c : b0F t p = true
  · have c' := c
    rw [b0F, decide_eq_true_eq] at c'
    have l1 := TX_in T e.2.1 (fun q => by rw [q] at c'; exact absurd c'.2 (by decide))
    have e1 := nm_i p0 l1 T.1.2 l
    rw [if_pos c, if_neg (fun q => b01_0.mp q c), g0, sg_t T Y e1.1]
    simp only [wot_m, sF_fold]
    by_cases d : wth (t (p + 2)) < 0
    · have q1 : isLt (t (p + 1)) = true ∧ ¬ isDg (t (p + 1)) = true := by
        rcases c'.2 with q | q
        · rw [q]; decide
        · rw [q]; decide
      rw [if_pos d, dig_0 hN T Y p0 e.1 (by rw [c'.1]; decide) q1.1 q1.2, xx11_number_b48]
      simp only [lt, sF_fold]
      rw [if_neg (by decide), xx11_number_b74, show sF (md_pl σ 710 0) 708 = p from h1]
      simp only [lt, sF_fold]
      exact NQ_tr (mf_pi (mf_pl mf_rfl rfl) rfl) (num_z hN (σ := md_pi (md_pl σ 710 0) 713 (p + 2)) T (TXx_fr X (mf_pi (P := fNx) (mf_pl mf_rfl rfl) rfl) rfl rfl rfl) e1.1 h1 rfl d g1 g2 ⟨e.2.2.1, e.2.1⟩)
    · rw [if_neg d, xx11_number_b48]
      simp only [lt, sF_fold]
      rw [if_neg (by decide), xx11_number_b74, show sF (md_pl σ 710 0) 708 = p from h1]
      simp only [lt, sF_fold]
      rw [g0]
      exact NQ_tr (mf_pi (mf_pl mf_rfl rfl) rfl) (num_x T Y p0 g1 g2 ⟨e.2.2.1, e.2.1⟩ e1.2.2 N (p + 2) 0 (md_pi (md_pl σ 710 0) 713 (p + 2)) (TXx_fr X (mf_pi (P := fNx) (mf_pl mf_rfl rfl) rfl) rfl rfl rfl) h1 rfl rfl (Int32.le_refl _) e1.2.1 (.inr d) (big_d hN))
  · rw [if_neg c, if_pos (b01_0.mpr c)]
    exact dec
