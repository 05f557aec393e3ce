/-! LAYER 2: tokens: what is passed over, lines -/
def eol (n : Int32) (t : Int32 → Int32) (v : Int32) : Int32 := sr (fun k => decide (n ≤ k) || decide (t k = 10)) v
theorem eol_P {n : Int32} {t : Int32 → Int32} (T : TXo n t) {v : Int32} (h0 : 0 ≤ v) (h1 : v ≤ n) : v ≤ eol n t v ∧ eol n t v ≤ n := by
  have := sr_P (P := fun k => decide (n ≤ k) || decide (t k = 10)) (m := n) (v := v) (by simp) T.1.2 h0 h1
  exact ⟨this.2.1, this.2.2.1⟩
theorem eol_y {n : Int32} {t : Int32 → Int32} {v : Int32} (h : n ≤ v ∨ t v = 10) : eol n t v = v := sr_y (P := fun k => decide (n ≤ k) || decide (t k = 10)) (by
  rcases h with h | h
  · simp [h]
  · simp [h])
theorem eol_n {n : Int32} {t : Int32 → Int32} (T : TXo n t) {v : Int32} (h0 : 0 ≤ v) (h1 : v ≤ n) (a : ¬ n ≤ v) (b : ¬ t v = 10) : eol n t v = eol n t (v + 1) ∧ v < n ∧ 0 ≤ v + 1 ∧ v + 1 ≤ n ∧ (n.toInt - (v + 1).toInt).toNat + 1 = (n.toInt - v.toInt).toNat :=
  sr_n (P := fun k => decide (n ≤ k) || decide (t k = 10)) (m := n) (by simp) T.1.2 h0 h1 (by simp [a, b])
/-- where a remark ends -/
def rmk (n : Int32) (t : Int32 → Int32) (a : Int32) : Int32 := if 0 ≤ brk t a 91 then (if cls t n (a + brk t a 91 + 2) (brk t a 91) < 0 then eol n t a else cls t n (a + brk t a 91 + 2) (brk t a 91) + brk t a 91 + 2) else eol n t a
theorem rmk_1 {a b n : Int32} (a0 : 0 ≤ a) (n1 : n ≤ 8000) (b0 : 0 ≤ b) (b1 : b ≤ 9) (h : a + 1 + b < n) (al : a ≤ n) : 0 ≤ a + b + 2 ∧ a + b + 2 ≤ n ∧ a ≤ a + b + 2 := by
  refine ⟨by lia, by lia, by lia⟩
theorem rmk_2 {a c b n i : Int32} (a0 : 0 ≤ a) (n1 : n ≤ 8000) (b0 : 0 ≤ b) (b1 : b ≤ 9) (i0 : a ≤ i) (h : i ≤ c) (h2 : c < n) (h3 : c + 1 + b < n) : a ≤ c + b + 2 ∧ c + b + 2 ≤ n ∧ ¬ c < 0 := by
  refine ⟨by lia, by lia, by lia⟩
theorem rmk_r {n : Int32} {t : Int32 → Int32} (T : TXo n t) {a : Int32} (h0 : 0 ≤ a) (h1 : a ≤ n) : a ≤ rmk n t a ∧ rmk n t a ≤ n := by
  have e := eol_P T h0 h1
  rw [rmk]
  by_cases c : 0 ≤ brk t a 91
  · rw [if_pos c]
    rcases brk_r T (i := a) (m := 91) h0 (by decide) with q | ⟨q1, q2, q3, q4⟩
    · rw [q] at c; exact absurd c (by decide)
    · have r := rmk_1 h0 T.1.2 q1 q2 q4 h1
      rcases cls_r T (i := a + brk t a 91 + 2) (lv := brk t a 91) r.1 r.2.1 q1 with k | ⟨k1, k2, k3, k4⟩
      · rw [k, if_pos (by decide)]; exact e
      · have s := rmk_2 h0 T.1.2 q1 q2 r.2.2 k1 k2 k4
        rw [if_neg s.2.2]; exact ⟨s.1, s.2.1⟩
  · rw [if_neg c]; exact e
theorem rem40 {N : Nat} {n : Int32} {t : Int32 → Int32} {σ : mS} (T : TXo n t) (X : TXx n t σ) : ∀ (j : Nat) (v : Int32), 0 ≤ v → v ≤ n → (n.toInt - v.toInt).toNat < j → xx11_remark_b40 N j v σ = some (eol n t v, σ) := by
  intro j
  induction j with
  | zero => intro v _ _ h; omega
  | succ j ih =>
    intro v h0 h1 hj
    rw [xx11_remark_b40]
    simp only [sF_fold]
    rw [X.1]
    by_cases c : n ≤ v
    · rw [if_pos c, eol_y (.inl c)]; rfl
    · rw [if_neg c, at_t T X h0]
      simp only [bd]
      by_cases d : t v = 10
      · rw [if_pos d, eol_y (.inr d)]; rfl
      · obtain ⟨e1, _, e2, e3, e4⟩ := eol_n T h0 h1 c d
        rw [if_neg d, e1]
        exact ih (v + 1) e2 e3 (by omega)
theorem remark_t {N : Nat} (hN : BIG ≤ N) {n : Int32} {t : Int32 → Int32} {σ : mS} (T : TXo n t) (X : TXx n t σ) {a : Int32} (h0 : 0 ≤ a) (h1 : a ≤ n) : xx11_remark N σ a = some (rmk n t a, σ) := by
  have l := rem40 (N := N) T X N a h0 h1 (big_d hN)
  rw [xx11_remark, bracket_t hN T X h0 (by decide)]
  simp only [bd]
  rw [rmk]
  by_cases c : 0 ≤ brk t a 91
  · rw [if_pos c, if_pos c]
    rcases brk_r T (i := a) (m := 91) h0 (by decide) with q | ⟨q1, q2, q3, q4⟩
    · rw [q] at c; exact absurd c (by decide)
    · have r := rmk_1 h0 T.1.2 q1 q2 q4 h1
      rw [closing_t hN T X r.1 r.2.1]
      simp only [xx11_remark_b26]
      by_cases d : cls t n (a + brk t a 91 + 2) (brk t a 91) < 0
      · rw [if_pos d, if_pos d]; exact l
      · rw [if_neg d, if_neg d]
  · rw [if_neg c, if_neg c, xx11_remark_b26, if_pos (by decide)]
    exact l
/-- what is passed over -/
def skF (n : Int32) (t : Int32 → Int32) : Nat → Int32 → Int32
  | 0, v => v
  | j + 1, v => if isBk (t v) = true then skF n t j (v + 1) else if t v = 45 ∧ t (v + 1) = 45 then skF n t j (rmk n t (v + 2)) else v
theorem TX_in {n : Int32} {t : Int32 → Int32} (T : TXo n t) {v : Int32} (h1 : v ≤ n) (h : t v ≠ -1) : v < n := by
  by_cases c : n ≤ v
  · exact absurd (TX_e T c) h
  · exact Int32.not_le.mp c
theorem sk_1 {v n : Int32} (h0 : 0 ≤ v) (n1 : n ≤ 8000) (h : v < n) : 0 ≤ v + 1 ∧ v + 1 ≤ n ∧ v < v + 1 ∧ (v + 1).toInt = v.toInt + 1 ∧ v.toInt < n.toInt := ⟨by lia, by lia, by lia, tI_inc h0 (by lia), tI_lt.mp h⟩
theorem sk_2 {v n r : Int32} (h0 : 0 ≤ v) (n1 : n ≤ 8000) (h : v + 1 < n) (hr : v + 2 ≤ r) (v1 : v < n) : 0 ≤ v + 2 ∧ v + 2 ≤ n ∧ 0 ≤ r ∧ v < r ∧ v ≤ r := ⟨by lia, by lia, by lia, by lia, by lia⟩
theorem skp_b {n : Int32} {t : Int32 → Int32} (T : TXo n t) {v : Int32} (h1 : v ≤ n) (h : isBk (t v) = true) : v < n := TX_in T h1 (fun e => by rw [e] at h; exact absurd h (by decide))
theorem sk_r {n : Int32} {t : Int32 → Int32} (T : TXo n t) {v : Int32} (h0 : 0 ≤ v) (h1 : v ≤ n) (h : t v = 45 ∧ t (v + 1) = 45) : (0 ≤ v + 2 ∧ v + 2 ≤ n) ∧ (0 ≤ rmk n t (v + 2) ∧ rmk n t (v + 2) ≤ n) ∧ v < rmk n t (v + 2) ∧ v < n := by
  have v1 : v < n := TX_in T h1 (by rw [h.1]; decide)
  have s := sk_1 h0 T.1.2 v1
  have v2 : v + 1 < n := TX_in T s.2.1 (by rw [h.2]; decide)
  have a0 : 0 ≤ v + 2 ∧ v + 2 ≤ n := by
    have n1 := T.1.2
    clear h s T
    exact ⟨by lia, by lia⟩
  have r := rmk_r T a0.1 a0.2
  have q := sk_2 h0 T.1.2 v2 r.1 v1
  exact ⟨a0, ⟨q.2.2.1, r.2⟩, q.2.2.2.1, v1⟩
theorem skF_r {n : Int32} {t : Int32 → Int32} (T : TXo n t) : ∀ (j : Nat) (v : Int32), 0 ≤ v → v ≤ n → v ≤ skF n t j v ∧ skF n t j v ≤ n := by
  intro j
  induction j with
  | zero => intro v h0 h1; exact ⟨Int32.le_refl _, h1⟩
  | succ j ih =>
    intro v h0 h1
    rw [skF]
    by_cases c : isBk (t v) = true
    · have s := sk_1 h0 T.1.2 (skp_b T h1 c)
      have i := ih (v + 1) s.1 s.2.1
      rw [if_pos c]
      exact ⟨Int32.le_trans (Int32.le_of_lt s.2.2.1) i.1, i.2⟩
    · rw [if_neg c]
      by_cases d : t v = 45 ∧ t (v + 1) = 45
      · obtain ⟨_, r1, r2, _⟩ := sk_r T h0 h1 d
        have i := ih _ r1.1 r1.2
        rw [if_pos d]
        exact ⟨Int32.le_trans (Int32.le_of_lt r2) i.1, i.2⟩
      · rw [if_neg d]; exact ⟨Int32.le_refl _, h1⟩
theorem blanks_lp {N : Nat} (hN : BIG ≤ N) {n : Int32} {t : Int32 → Int32} {σ : mS} (T : TXo n t) (X : TXx n t σ) : ∀ (j : Nat) (v : Int32), 0 ≤ v → v ≤ n → (n.toInt - v.toInt).toNat < j → xx11_blanks_b2 N j v σ = some (skF n t j v, σ) := by
  intro j
  induction j with
  | zero => intro v _ _ h; omega
  | succ j ih =>
    intro v h0 h1 hj
    rw [xx11_blanks_b2, at_t T X h0]
    simp only [bd, bk_t]
    rw [skF]
    by_cases c : isBk (t v) = true
    · have s := sk_1 h0 T.1.2 (skp_b T h1 c)
      rw [if_pos c, if_neg (fun q => b01_0.mp q c), xx11_blanks_b35, at_t T X h0]
      simp only [bd, bk_t]
      rw [if_neg (fun q => b01_0.mp q c), xx11_blanks_b59]
      exact ih (v + 1) s.1 s.2.1 (by omega)
    · rw [if_neg c, if_pos (b01_0.mpr c), at_t T X h0]
      simp only [bd]
      by_cases d : t v = 45
      · rw [if_pos d, at_t T X (sk_1 h0 T.1.2 (TX_in T h1 (by rw [d]; decide))).1]
        simp only [bd]
        by_cases e : t (v + 1) = 45
        · obtain ⟨a0, r1, r2, v1⟩ := sk_r T h0 h1 ⟨d, e⟩
          rw [if_pos e, if_pos ⟨d, e⟩, xx11_blanks_b35, at_t T X h0]
          simp only [bd, bk_t]
          rw [if_pos (b01_0.mpr c), remark_t hN T X a0.1 a0.2]
          simp only [bd, xx11_blanks_b59]
          have q1 := tI_lt.mp r2
          have q2 := tI_lt.mp v1
          exact ih _ r1.1 r1.2 (by omega)
        · rw [if_neg e, if_neg (fun q => e q.2)]; rfl
      · rw [if_neg d, if_neg (fun q => d q.1)]; rfl
theorem blanks_t {N : Nat} (hN : BIG ≤ N) {n : Int32} {t : Int32 → Int32} {σ : mS} (T : TXo n t) (X : TXx n t σ) {v : Int32} (h0 : 0 ≤ v) (h1 : v ≤ n) : xx11_blanks N σ v = some (skF n t N v, σ) := blanks_lp hN T X N v h0 h1 (big_d hN)
theorem bb84 {N : Nat} {n : Int32} {t : Int32 → Int32} {μ : mS} (T : TXo n t) (X : TXm n t μ) (r2 : Int32 → mS → Option (Int32 × mS)) : ∀ (j : Nat) (v : Int32), 0 ≤ v → v ≤ n → (n.toInt - v.toInt).toNat < j → mm_behindBlanks_84 N r2 j v μ = r2 (eol n t v) μ := by
  intro j
  induction j with
  | zero => intro v _ _ h; omega
  | succ j ih =>
    intro v h0 h1 hj
    rw [mm_behindBlanks_84]
    simp only [sF_fold]
    rw [X.1]
    by_cases c : n ≤ v
    · rw [if_pos c, eol_y (.inl c)]; rfl
    · rw [if_neg c, sg_t T X h0]
      simp only [bd]
      by_cases d : t v = 10
      · rw [if_pos d, eol_y (.inr d)]; rfl
      · obtain ⟨e1, _, e2, e3, e4⟩ := eol_n T h0 h1 c d
        rw [if_neg d, e1]
        exact ih (v + 1) e2 e3 (by omega)
theorem eol_2 {n : Int32} {t : Int32 → Int32} (T : TXo n t) {v : Int32} (h0 : 0 ≤ v) (h1 : v ≤ n) (h : t v = 45 ∧ t (v + 1) = 45) : eol n t v = eol n t (v + 2) := by
  have v1 : v < n := TX_in T h1 (by rw [h.1]; decide)
  have s := sk_1 h0 T.1.2 v1
  have v2 : v + 1 < n := TX_in T s.2.1 (by rw [h.2]; decide)
  have a := eol_n T h0 h1 (Int32.not_le.mpr v1) (by rw [h.1]; decide)
  have b := eol_n T s.1 s.2.1 (Int32.not_le.mpr v2) (by rw [h.2]; decide)
  rw [a.1, b.1, show v + 1 + 1 = v + 2 from by clear a b s h T; lia]
theorem bb_m {N : Nat} (hN : BIG ≤ N) {n : Int32} {t : Int32 → Int32} {μ : mS} (T : TXo n t) (X : TXm n t μ) : ∀ (j : Nat) (v : Int32), 0 ≤ v → v ≤ n → (n.toInt - v.toInt).toNat < j → mm_behindBlanks_2 N j v μ = some (skF n t j v, μ) := by
  intro j
  induction j with
  | zero => intro v _ _ h; omega
  | succ j ih =>
    intro v h0 h1 hj
    rw [mm_behindBlanks_2, sg_t T X h0]
    simp only [bd, bkt_m]
    rw [skF]
    by_cases c : isBk (t v) = true
    · have s := sk_1 h0 T.1.2 (skp_b T h1 c)
      rw [if_pos c, if_neg (fun q => b01_0.mp q c)]
      simp only [lt]
      exact ih (v + 1) s.1 s.2.1 (by omega)
    · rw [if_neg c, if_pos (b01_0.mpr c), sg_t T X h0]
      simp only [bd]
      by_cases d : t v = 45
      · rw [if_pos d, sg_t T X (sk_1 h0 T.1.2 (TX_in T h1 (by rw [d]; decide))).1]
        simp only [bd]
        by_cases e : t (v + 1) = 45
        · obtain ⟨a0, r1, r2, v1⟩ := sk_r T h0 h1 ⟨d, e⟩
          have q1 := tI_lt.mp r2
          have q2 := tI_lt.mp v1
          have fin := ih _ r1.1 r1.2 (by omega)
          have l := bb84 (N := N) T X (mm_behindBlanks_2 N j) N v h0 h1 (big_d hN)
          rw [eol_2 T h0 h1 ⟨d, e⟩] at l
          rw [if_pos e, if_pos ⟨d, e⟩, opening_m hN T X a0.1]
          simp only [bd]
          rw [← fin, rmk]
          by_cases f : 0 ≤ brk t (v + 2) 91
          · rw [if_pos f, if_pos f]
            rcases brk_r T (i := v + 2) (m := 91) a0.1 (by decide) with q | ⟨q1, q2, q3, q4⟩
            · rw [q] at f; exact absurd f (by decide)
            · have r := rmk_1 a0.1 T.1.2 q1 q2 q4 a0.2
              rw [show v + 4 + brk t (v + 2) 91 = v + 2 + brk t (v + 2) 91 + 2 from by clear ih fin l r q4; lia, closing_m hN T X r.1 r.2.1 q1 q2]
              simp only [bd, mm_behindBlanks_67]
              by_cases g : cls t n (v + 2 + brk t (v + 2) 91 + 2) (brk t (v + 2) 91) < 0
              · rw [if_pos g, if_pos g]; exact l
              · rw [if_neg g, if_neg g]
                simp only [lt, mm_behindBlanks_108]
                rw [show cls t n (v + 2 + brk t (v + 2) 91 + 2) (brk t (v + 2) 91) + 2 + brk t (v + 2) 91 = cls t n (v + 2 + brk t (v + 2) 91 + 2) (brk t (v + 2) 91) + brk t (v + 2) 91 + 2 from by clear ih fin l r q4; lia]
          · rw [if_neg f, if_neg f, mm_behindBlanks_67, if_pos (by decide)]
            exact l
        · rw [if_neg e, if_neg (fun q => e q.2)]; rfl
      · rw [if_neg d, if_neg (fun q => d q.1)]; rfl
theorem behind_m {N : Nat} (hN : BIG ≤ N) {n : Int32} {t : Int32 → Int32} {μ : mS} (T : TXo n t) (X : TXm n t μ) {v : Int32} (h0 : 0 ≤ v) (h1 : v ≤ n) : mm_behindBlanks N μ v = some (skF n t N v, μ) := bb_m hN T X N v h0 h1 (big_d hN)
/-- the line of a place -/
def lnF (t : Int32 → Int32) : Nat → Int32
  | 0 => 1
  | k + 1 => lnF t k + (if t (Int32.ofNat k) = 10 then 1 else 0)
def LN (t : Int32 → Int32) (a : Int32) : Int32 := lnF t a.toNatClampNeg
theorem LN_s {t : Int32 → Int32} {v : Int32} (h0 : 0 ≤ v) (h1 : v < 8000) : LN t (v + 1) = LN t v + (if t v = 10 then 1 else 0) := by
  have e : (v + 1).toNatClampNeg = v.toNatClampNeg + 1 := by
    have a := tI_inc h0 (Int32.lt_trans h1 (by decide))
    have b := tI_cl (v + 1)
    have c := tI_cl v
    have d := tI_le.mp h0
    rw [show (0 : Int32).toInt = 0 from rfl] at d
    simp only [Int32.toNatClampNeg]
    omega
  rw [LN, e, lnF, oN_cl' h0]
  rfl
theorem TXx_fr {P : Nat → Bool} {n : Int32} {t : Int32 → Int32} {σ τ : mS} (X : TXx n t σ) (fr : m_fr P σ τ) (h1 : P 706 = false) (h2 : P 705 = false) (h3 : P 12 = false) : TXx n t τ := ⟨(mf_F fr h1).trans X.1, (mf_F fr h2).trans X.2.1, fun k k0 k1 => by rw [mf_I fr h3]; exact X.2.2 k k0 k1⟩
theorem TXm_fr {P : Nat → Bool} {n : Int32} {t : Int32 → Int32} {σ τ : mS} (X : TXm n t σ) (fr : m_fr P σ τ) (h1 : P 1 = false) (h3 : P 0 = false) : TXm n t τ := ⟨(mf_F fr h1).trans X.1, fun k k0 k1 => by rw [mf_I fr h3]; exact X.2 k k0 k1⟩
theorem ln_1 {c a n : Int32} (h0 : 0 ≤ c) (h : ¬ a ≤ c) (an : a ≤ n) (n1 : n ≤ 8000) : (0 ≤ c + 1 ∧ c + 1 ≤ a) ∧ c < 8000 ∧ (a.toInt - (c + 1).toInt).toNat + 1 = (a.toInt - c.toInt).toNat := by
  have l := Int32.not_le.mp h
  have vi : (c + 1).toInt = c.toInt + 1 := tI_inc h0 (by lia)
  have q := tI_lt.mp l
  exact ⟨⟨by lia, by lia⟩, by lia, by omega⟩
theorem lineOf_lp {N : Nat} {n : Int32} {t : Int32 → Int32} (T : TXo n t) {a : Int32} (an : a ≤ n) : ∀ (j : Nat) (σ : mS), TXx n t σ → 0 ≤ sF σ 714 → sF σ 714 ≤ a → sF σ 715 = LN t (sF σ 714) → (a.toInt - (sF σ 714).toInt).toNat < j → ∃ τ, xx11_lineOf_b0 N j a σ = some (LN t a, τ) ∧ sF τ 714 = a ∧ sF τ 715 = LN t a ∧ m_fr (fun k => [714, 715].contains k) σ τ := by
  intro j
  induction j with
  | zero => intro σ _ _ _ _ h; omega
  | succ j ih =>
    intro σ X h0 h1 hl hj
    rw [xx11_lineOf_b0]
    simp only [sF_fold]
    by_cases c : a ≤ sF σ 714
    · have e := Int32.le_antisymm c h1
      rw [if_pos c, hl, ← e]
      exact ⟨σ, rfl, e.symm, by rw [hl, ← e], mf_rfl⟩
    · have r := ln_1 h0 c an T.1.2
      have s := LN_s (t := t) h0 r.2.1
      rw [if_neg c, at_t T X h0]
      simp only [bd]
      have go : ∀ y : Int32, y = (if t (sF σ 714) = 10 then 1 else 0) → ∃ τ, xx11_lineOf_b31 N (xx11_lineOf_b0 N j) a (sF σ 715) y σ = some (LN t a, τ) ∧ sF τ 714 = a ∧ sF τ 715 = LN t a ∧ m_fr (fun k => [714, 715].contains k) σ τ := fun y hy => by
        rw [xx11_lineOf_b31]
        simp only [lt, sF_fold]
        have e1 : sF (md_pi σ 715 (sF σ 715 + y)) 714 = sF σ 714 := by rw [sF_pi, if_neg (by decide)]
        rw [e1]
        have f1 : m_fr (fun k => [714, 715].contains k) σ (md_pi (md_pi σ 715 (sF σ 715 + y)) 714 (sF σ 714 + 1)) := mf_pi (mf_pi mf_rfl rfl) rfl
        have q1 : sF (md_pi (md_pi σ 715 (sF σ 715 + y)) 714 (sF σ 714 + 1)) 714 = sF σ 714 + 1 := by rw [sF_pi, if_pos rfl]
        have q2 : sF (md_pi (md_pi σ 715 (sF σ 715 + y)) 714 (sF σ 714 + 1)) 715 = sF σ 715 + y := by rw [sF_pi, if_neg (by decide), sF_pi, if_pos rfl]
        obtain ⟨τ, g1, g2, g3, g4⟩ := ih _ (TXx_fr X f1 rfl rfl rfl) (by rw [q1]; exact r.1.1) (by rw [q1]; exact r.1.2) (by rw [q1, q2, s, hl, hy]) (by rw [q1]; omega)
        exact ⟨τ, g1, g2, g3, mf_tr f1 g4⟩
      by_cases d : t (sF σ 714) = 10
      · rw [if_pos d]; exact go 1 (by rw [if_pos d])
      · rw [if_neg d]; exact go 0 (by rw [if_neg d])
theorem step_lp {N : Nat} {n : Int32} {t : Int32 → Int32} (T : TXo n t) {a : Int32} (an : a ≤ n) : ∀ (j : Nat) (σ : mS), TXm n t σ → 0 ≤ sF σ 58 → sF σ 58 ≤ a → sF σ 59 = LN t (sF σ 58) → (a.toInt - (sF σ 58).toInt).toNat < j → ∃ τ, mm_step_0 N j a σ = some τ ∧ sF τ 58 = a ∧ sF τ 59 = LN t a ∧ m_fr (fun k => [58, 59].contains k) σ τ := by
  intro j
  induction j with
  | zero => intro σ _ _ _ _ h; omega
  | succ j ih =>
    intro σ X h0 h1 hl hj
    rw [mm_step_0]
    simp only [sF_fold]
    by_cases c : a ≤ sF σ 58
    · have e := Int32.le_antisymm c h1
      rw [if_pos c]
      exact ⟨σ, rfl, e.symm, by rw [hl, ← e], mf_rfl⟩
    · have r := ln_1 h0 c an T.1.2
      have s := LN_s (t := t) h0 r.2.1
      rw [if_neg c, sg_t T X h0]
      simp only [bd]
      have go : ∀ y : Int32, y = (if t (sF σ 58) = 10 then 1 else 0) → ∃ τ, mm_step_31 N (mm_step_0 N j) a (sF σ 59) y σ = some τ ∧ sF τ 58 = a ∧ sF τ 59 = LN t a ∧ m_fr (fun k => [58, 59].contains k) σ τ := fun y hy => by
        rw [mm_step_31]
        simp only [lt, sF_fold]
        have e1 : sF (md_pi σ 59 (sF σ 59 + y)) 58 = sF σ 58 := by rw [sF_pi, if_neg (by decide)]
        rw [e1]
        have f1 : m_fr (fun k => [58, 59].contains k) σ (md_pi (md_pi σ 59 (sF σ 59 + y)) 58 (sF σ 58 + 1)) := mf_pi (mf_pi mf_rfl rfl) rfl
        have q1 : sF (md_pi (md_pi σ 59 (sF σ 59 + y)) 58 (sF σ 58 + 1)) 58 = sF σ 58 + 1 := by rw [sF_pi, if_pos rfl]
        have q2 : sF (md_pi (md_pi σ 59 (sF σ 59 + y)) 58 (sF σ 58 + 1)) 59 = sF σ 59 + y := by rw [sF_pi, if_neg (by decide), sF_pi, if_pos rfl]
        obtain ⟨τ, g1, g2, g3, g4⟩ := ih _ (TXm_fr X f1 rfl rfl) (by rw [q1]; exact r.1.1) (by rw [q1]; exact r.1.2) (by rw [q1, q2, s, hl, hy]) (by rw [q1]; omega)
        exact ⟨τ, g1, g2, g3, mf_tr f1 g4⟩
      by_cases d : t (sF σ 58) = 10
      · rw [if_pos d]; exact go 1 (by rw [if_pos d])
      · rw [if_neg d]; exact go 0 (by rw [if_neg d])
