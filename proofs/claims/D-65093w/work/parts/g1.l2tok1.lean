/-! LAYER 2: brackets, remarks, blanks -/
/-- the first place that is no '=' -/
def eqs (t : Int32 → Int32) (v : Int32) : Int32 := sr (fun k => decide (t k ≠ 61)) v
def brk (t : Int32 → Int32) (i m : Int32) : Int32 := if t i = m then (if t (eqs t (i + 1)) = m ∧ eqs t (i + 1) - i - 1 ≤ 9 then eqs t (i + 1) - i - 1 else -1) else -1
theorem TX_e {n : Int32} {t : Int32 → Int32} (T : TXo n t) {k : Int32} (k1 : n ≤ k) : t k = -1 := T.2.1 k k1
theorem eqs_P {n : Int32} {t : Int32 → Int32} (T : TXo n t) {v : Int32} (h0 : 0 ≤ v) (h1 : v ≤ 8000) : t (eqs t v) ≠ 61 ∧ v ≤ eqs t v ∧ eqs t v ≤ 8000 ∧ ∀ k, v ≤ k → k < eqs t v → t k = 61 := by
  have hm : (fun k => decide (t k ≠ 61)) 8000 = true := by
    show decide (t 8000 ≠ 61) = true
    rw [TX_e T T.1.2]
    decide
  obtain ⟨a, b, c, d⟩ := sr_P (P := fun k => decide (t k ≠ 61)) hm (by decide) h0 h1
  refine ⟨of_decide_eq_true a, b, c, fun k k0 k1 => ?_⟩
  have := d k k0 k1
  exact Decidable.byContradiction (fun q => this (decide_eq_true q))
theorem eqs_n {n : Int32} {t : Int32 → Int32} (T : TXo n t) {v : Int32} (h0 : 0 ≤ v) (h1 : v ≤ 8000) (h : t v = 61) : eqs t v = eqs t (v + 1) ∧ v < 8000 ∧ 0 ≤ v + 1 ∧ v + 1 ≤ 8000 ∧ ((8000 : Int32).toInt - (v + 1).toInt).toNat + 1 = ((8000 : Int32).toInt - v.toInt).toNat := by
  have hm : (fun k => decide (t k ≠ 61)) 8000 = true := by
    show decide (t 8000 ≠ 61) = true
    rw [TX_e T T.1.2]
    decide
  exact sr_n (P := fun k => decide (t k ≠ 61)) hm (by decide) h0 h1 (by simp [h])
theorem eqs_y {t : Int32 → Int32} {v : Int32} (h : t v ≠ 61) : eqs t v = v := sr_y (P := fun k => decide (t k ≠ 61)) (by simp [h])
theorem brk_lp {N : Nat} {n : Int32} {t : Int32 → Int32} {σ : mS} (T : TXo n t) (X : TXx n t σ) {i m : Int32} : ∀ (j : Nat) (v : Int32), 0 ≤ v → v ≤ 8000 → ((8000 : Int32).toInt - v.toInt).toNat < j → xx11_bracket_b15 N j i m v σ = some (if t (eqs t v) = m ∧ eqs t v - i - 1 ≤ 9 then eqs t v - i - 1 else -1, σ) := by
  intro j
  induction j with
  | zero => intro v _ _ h; omega
  | succ j ih =>
    intro v h0 h1 hj
    rw [xx11_bracket_b15, at_t T X h0]
    simp only [bd]
    by_cases c : t v = 61
    · obtain ⟨e, a1, a2, a3, a4⟩ := eqs_n T h0 h1 c
      rw [if_pos c, e]
      exact ih (v + 1) a2 a3 (by omega)
    · rw [if_neg c, at_t T X h0, eqs_y c]
      simp only
      by_cases q : t v = m
      · rw [if_pos q]
        by_cases q2 : 9 < v - i - 1
        · rw [if_pos q2, if_neg (fun w => Int32.not_le.mpr q2 w.2)]; rfl
        · rw [if_neg q2, if_pos ⟨q, Int32.not_lt.mp q2⟩]; rfl
      · rw [if_neg q, if_neg (fun w => q w.1)]; rfl
theorem bg_8 {N : Nat} (hN : BIG ≤ N) {a b : Int32} : (a.toInt - b.toInt).toNat < N := big_d hN
theorem bracket_t {N : Nat} (hN : BIG ≤ N) {n : Int32} {t : Int32 → Int32} {σ : mS} (T : TXo n t) (X : TXx n t σ) {i m : Int32} (h0 : 0 ≤ i) (hm : m ≠ -1) : xx11_bracket N σ i m = some (brk t i m, σ) := by
  rw [xx11_bracket, at_t T X h0]
  simp only [bd, lt, brk]
  by_cases c : t i = m
  · have l : i < 8000 := by
      have : ¬ n ≤ i := fun q => hm (by rw [← c]; exact TX_e T q)
      have := T.1.2
      lia
    rw [if_pos c, if_pos c]
    exact brk_lp T X N (i + 1) (by lia) (by lia) (big_d hN)
  · rw [if_neg c, if_neg c]
/-- the reference's way: k and so many = behind it -/
theorem op_lp {N : Nat} {n : Int32} {t : Int32 → Int32} {μ : mS} (T : TXo n t) (X : TXm n t μ) {i : Int32} (i0 : 0 ≤ i) (i1 : i ≤ 8000) : ∀ (j : Nat) (v : Int32), 0 ≤ v → v ≤ 10 → (10 - v.toInt).toNat < j → mm_opening_14 N j i v μ = some (if t (eqs t (i + 1 + v)) = 91 ∧ eqs t (i + 1 + v) - i - 1 ≤ 9 then eqs t (i + 1 + v) - i - 1 else -1, μ) := by
  intro j
  induction j with
  | zero => intro v _ _ h; omega
  | succ j ih =>
    intro v h0 h1 hj
    have p0 : 0 ≤ i + 1 + v := by lia
    rw [mm_opening_14]
    -- at the end
    have fin : t (i + 1 + v) ≠ 61 → mm_opening_40 N i v μ = some (if t (eqs t (i + 1 + v)) = 91 ∧ eqs t (i + 1 + v) - i - 1 ≤ 9 then eqs t (i + 1 + v) - i - 1 else -1, μ) := fun c => by
      rw [mm_opening_40, eqs_y c]
      have e : i + 1 + v - i - 1 = v := by lia
      rw [e]
      by_cases q2 : 9 < v
      · rw [if_pos q2, if_neg (fun w => Int32.not_le.mpr q2 w.2)]; rfl
      · rw [if_neg q2, sg_t T X p0]
        simp only [bd]
        by_cases q : t (i + 1 + v) = 91
        · rw [if_pos q, if_pos ⟨q, Int32.not_lt.mp q2⟩]; rfl
        · rw [if_neg q, if_neg (fun w => q w.1)]; rfl
    by_cases q2 : 9 < v
    · have ev : v = 10 := by clear ih fin; lia
      rw [if_pos q2, mm_opening_40, if_pos q2]
      by_cases c : t (i + 1 + v) = 61
      · have l8 : i + 1 + v < 8000 := by
          have : ¬ n ≤ i + 1 + v := fun q => by rw [TX_e T q] at c; exact absurd c (by decide)
          have := T.1.2
          clear ih fin
          lia
        have P := eqs_P T p0 (Int32.le_of_lt l8)
        have ne : i + 1 + v ≠ eqs t (i + 1 + v) := fun e => P.1 (by rw [← e]; exact c)
        rw [if_neg (fun w => by
          have w2 := w.2
          have p2 := P.2.1
          have p3 := P.2.2.1
          clear ih fin P
          generalize eqs t (i + 1 + v) = z at *
          lia)]
        rfl
      · have := fin c
        rw [mm_opening_40, if_pos q2] at this
        exact this
    · rw [if_neg q2, sg_t T X p0]
      simp only [bd]
      by_cases c : t (i + 1 + v) = 61
      · have l8 : i + 1 + v < 8000 := by
          have : ¬ n ≤ i + 1 + v := fun q => by rw [TX_e T q] at c; exact absurd c (by decide)
          have := T.1.2
          clear ih fin
          lia
        obtain ⟨e, a1, a2, a3, a4⟩ := eqs_n T p0 (Int32.le_of_lt l8) c
        have e2 : i + 1 + v + 1 = i + 1 + (v + 1) := by lia
        rw [e2] at e
        have vi : (v + 1).toInt = v.toInt + 1 := tI_inc h0 (by clear ih fin; lia)
        have v9 := tI_le.mp (Int32.not_lt.mp q2)
        rw [show (9 : Int32).toInt = 9 from rfl] at v9
        rw [if_pos c, e]
        exact ih (v + 1) (by clear ih fin; lia) (by clear ih fin; lia) (by omega)
      · rw [if_neg c]; exact fin c
theorem opening_m {N : Nat} (hN : BIG ≤ N) {n : Int32} {t : Int32 → Int32} {μ : mS} (T : TXo n t) (X : TXm n t μ) {i : Int32} (h0 : 0 ≤ i) : mm_opening N μ i = some (brk t i 91, μ) := by
  rw [mm_opening, sg_t T X h0]
  simp only [bd, brk]
  by_cases c : t i = 91
  · have l : i < 8000 := by
      have : ¬ n ≤ i := fun q => by rw [TX_e T q] at c; exact absurd c (by decide)
      have := T.1.2
      lia
    have := op_lp T X h0 (Int32.le_of_lt l) N 0 (by decide) (by decide) (by simp only [BIG] at hN; rw [show (0 : Int32).toInt = 0 from rfl]; omega) (N := N)
    rw [show i + 1 + 0 = i + 1 from Int32.add_zero _] at this
    rw [if_pos c, if_pos c]
    exact this
  · rw [if_neg c, if_neg c]
/-- where a bracket is: so many = between -/
theorem brk_i {n : Int32} {t : Int32 → Int32} (T : TXo n t) {i m lv : Int32} (h0 : 0 ≤ i) (hm : m ≠ -1) (m61 : m ≠ 61) (l0 : 0 ≤ lv) (l1 : lv ≤ 9) : brk t i m = lv ↔ t i = m ∧ (∀ j, 0 ≤ j → j < lv → t (i + 1 + j) = 61) ∧ t (i + 1 + lv) = m := by
  by_cases c : t i = m
  · have l : i < 8000 := by
      have : ¬ n ≤ i := fun q => hm (by rw [← c]; exact TX_e T q)
      have := T.1.2
      lia
    obtain ⟨p1, p2, p3, p4⟩ := eqs_P T (v := i + 1) (by lia) (by lia)
    have un : (∀ j, 0 ≤ j → j < lv → t (i + 1 + j) = 61) → t (i + 1 + lv) = m → eqs t (i + 1) = i + 1 + lv := fun h1 h2 => by
      have lv8 : i + 1 + lv ≤ 8000 := by
        have : ¬ n ≤ i + 1 + lv := fun q => hm (by rw [← h2]; exact TX_e T q)
        have := T.1.2
        clear p4 h1
        lia
      refine sr_u (by clear p4 h1; lia) (by clear p4 h1; lia) lv8 (by simp [h2, m61]) (fun k k0 k1 => ?_)
      have := h1 (k - (i + 1)) (by clear p4 h1; lia) (by clear p4 h1; lia)
      rw [show i + 1 + (k - (i + 1)) = k by clear p4 h1; lia] at this
      simp [this]
    rw [brk, if_pos c]
    constructor
    · intro h
      split at h
      · rename_i q
        have e : eqs t (i + 1) = i + 1 + lv := by
          clear p4 un
          generalize eqs t (i + 1) = z at *
          lia
        rw [e] at q p4
        exact ⟨c, fun j j0 j1 => p4 _ (by clear p4 un; lia) (by clear p4 un; lia), q.1⟩
      · rw [← h] at l0; exact absurd l0 (by decide)
    · intro ⟨_, h1, h2⟩
      have e := un h1 h2
      rw [e, show i + 1 + lv - i - 1 = lv by clear p4 un h1; lia, if_pos ⟨h2, l1⟩]
  · rw [brk, if_neg c]
    exact ⟨fun h => by rw [← h] at l0; exact absurd l0 (by decide), fun h => absurd h.1 c⟩
theorem brk_r {n : Int32} {t : Int32 → Int32} (T : TXo n t) {i m : Int32} (h0 : 0 ≤ i) (hm : m ≠ -1) : brk t i m = -1 ∨ (0 ≤ brk t i m ∧ brk t i m ≤ 9 ∧ t i = m ∧ i + 1 + brk t i m < n) := by
  rw [brk]
  by_cases c : t i = m
  · have l : i < 8000 := by
      have : ¬ n ≤ i := fun q => hm (by rw [← c]; exact TX_e T q)
      have := T.1.2
      lia
    obtain ⟨p1, p2, p3, p4⟩ := eqs_P T (v := i + 1) (by lia) (by lia)
    rw [if_pos c]
    split
    · rename_i q
      have : ¬ n ≤ eqs t (i + 1) := fun w => hm (by rw [← q.1]; exact TX_e T w)
      refine .inr ⟨?_, q.2, c, ?_⟩
      · clear p4
        generalize eqs t (i + 1) = z at *
        lia
      · clear p4
        generalize eqs t (i + 1) = z at *
        lia
    · exact .inl rfl
  · rw [if_neg c]; exact .inl rfl
/-- where the closing begins; -1 -/
def clP (t : Int32 → Int32) (n lv k : Int32) : Bool := decide (n ≤ k) || decide (brk t k 93 = lv)
def cls (t : Int32 → Int32) (n i lv : Int32) : Int32 := if n ≤ sr (clP t n lv) i then -1 else sr (clP t n lv) i
theorem clP_n {t : Int32 → Int32} {n lv : Int32} : clP t n lv n = true := by simp [clP]
theorem cls_lp {N : Nat} (hN : BIG ≤ N) {n : Int32} {t : Int32 → Int32} {σ : mS} (T : TXo n t) (X : TXx n t σ) {lv : Int32} : ∀ (j : Nat) (v : Int32), 0 ≤ v → v ≤ n → (n.toInt - v.toInt).toNat < j → xx11_closing_b2 N j lv v σ = some (if n ≤ sr (clP t n lv) v then -1 else sr (clP t n lv) v, σ) := by
  intro j
  induction j with
  | zero => intro v _ _ h; omega
  | succ j ih =>
    intro v h0 h1 hj
    rw [xx11_closing_b2]
    simp only [sF_fold]
    rw [X.1]
    by_cases c : n ≤ v
    · have e := Int32.le_antisymm h1 c
      subst e
      rw [if_pos c, xx11_closing_b27]
      simp only [sF_fold]
      rw [X.1, if_pos c, sr_y clP_n, if_pos c]
      rfl
    · rw [if_neg c, bracket_t hN T X h0 (by decide)]
      simp only [bd, lt]
      by_cases q : brk t v 93 = lv
      · have e : sr (clP t n lv) v = v := sr_y (by simp [clP, q])
        rw [if_pos q, xx11_closing_b27, e]
        simp only [sF_fold]
        rw [X.1, if_neg c, if_neg c]
        rfl
      · obtain ⟨e, a1, a2, a3, a4⟩ := sr_n (clP_n (t := t) (n := n) (lv := lv)) T.1.2 h0 h1 (by simp [clP, c, q])
        rw [if_neg q, e]
        exact ih (v + 1) a2 a3 (by omega)
theorem closing_t {N : Nat} (hN : BIG ≤ N) {n : Int32} {t : Int32 → Int32} {σ : mS} (T : TXo n t) (X : TXx n t σ) {i lv : Int32} (h0 : 0 ≤ i) (h1 : i ≤ n) : xx11_closing N σ i lv = some (cls t n i lv, σ) := cls_lp hN T X N i h0 h1 (big_d hN)
theorem ce_lp {N : Nat} {n : Int32} {t : Int32 → Int32} {μ : mS} (T : TXo n t) (X : TXm n t μ) {k lv : Int32} (k0 : 0 ≤ k) (k1 : k ≤ 8000) (l1 : lv ≤ 9) (r2 : Int32 → Int32 → mS → Option (Int32 × mS)) : ∀ (j : Nat) (v w : Int32), 0 ≤ v → v ≤ lv → (lv.toInt - v.toInt).toNat < j → (w = 0 ∨ w = 1) → ∃ b : Int32, mm_closing_44 N r2 j lv k w v μ = mm_closing_83 N r2 lv k b μ ∧ (b = 0 ∨ b = 1) ∧ (b = 1 ↔ w = 1 ∧ ∀ i, v ≤ i → i < lv → t (k + 1 + i) = 61) := by
  intro j
  induction j with
  | zero => intro v w _ _ h; omega
  | succ j ih =>
    intro v w h0 h1 hj hw
    rw [mm_closing_44]
    by_cases c : lv ≤ v
    · have e := Int32.le_antisymm h1 c
      subst e
      rw [if_pos c]
      exact ⟨w, rfl, hw, ⟨fun h => ⟨h, fun i i0 i1 => absurd (Int32.lt_of_le_of_lt i0 i1) Int32.lt_irrefl⟩, fun h => h.1⟩⟩
    · have l := Int32.not_le.mp c
      have vi : (v + 1).toInt = v.toInt + 1 := tI_inc h0 (by clear ih; lia)
      have vl := tI_lt.mp l
      rw [if_neg c]
      by_cases w0 : w = 0
      · rw [if_pos w0]
        exact ⟨w, rfl, hw, ⟨fun h => by rw [w0] at h; exact absurd h (by decide), fun h => h.1⟩⟩
      · have w1 : w = 1 := hw.resolve_left w0
        have split' : ∀ P : Int32 → Prop, (∀ i, v ≤ i → i < lv → P i) ↔ (P v ∧ ∀ i, v + 1 ≤ i → i < lv → P i) := fun P => by
          refine ⟨fun h => ⟨h v (Int32.le_refl _) l, fun i i0 i1 => h i (by clear ih h; lia) i1⟩, fun ⟨h2, h3⟩ i i0 i1 => ?_⟩
          by_cases e : i = v
          · rw [e]; exact h2
          · exact h3 i (by clear ih h3; lia) i1
        rw [if_neg w0, sg_t T X (by clear ih split'; lia)]
        simp only [bd]
        by_cases q : t (k + 1 + v) = 61
        · rw [if_pos q, mm_closing_75, lt]
          obtain ⟨b, h2, h3, h4⟩ := ih (v + 1) 1 (by clear ih split'; lia) (by clear ih split'; lia) (by omega) (.inr rfl)
          refine ⟨b, h2, h3, ?_⟩
          rw [h4, split']
          exact ⟨fun h => ⟨w1, q, h.2⟩, fun h => ⟨rfl, h.2.2⟩⟩
        · rw [if_neg q, mm_closing_75, lt]
          obtain ⟨b, h2, h3, h4⟩ := ih (v + 1) 0 (by clear ih split'; lia) (by clear ih split'; lia) (by omega) (.inl rfl)
          refine ⟨b, h2, h3, ?_⟩
          rw [h4, split']
          exact ⟨fun h => absurd h.1 (by decide), fun h => absurd h.2.1 q⟩
theorem clm_lp {N : Nat} (hN : BIG ≤ N) {n : Int32} {t : Int32 → Int32} {μ : mS} (T : TXo n t) (X : TXm n t μ) {lv : Int32} (l0 : 0 ≤ lv) (l1 : lv ≤ 9) : ∀ (j : Nat) (v : Int32), 0 ≤ v → v ≤ n → (n.toInt - v.toInt).toNat < j → mm_closing_2 N j lv v μ = some (if n ≤ sr (clP t n lv) v then -1 else sr (clP t n lv) v, μ) := by
  intro j
  induction j with
  | zero => intro v _ _ h; omega
  | succ j ih =>
    intro v h0 h1 hj
    have n8 := T.1.2
    rw [mm_closing_2]
    simp only [sF_fold]
    rw [X.1]
    by_cases c : n ≤ v
    · have e := Int32.le_antisymm h1 c
      subst e
      rw [if_pos c, sr_y clP_n, if_pos c]
    · have go : ¬ brk t v 93 = lv → mm_closing_2 N j lv (v + 1) μ = some (if n ≤ sr (clP t n lv) v then -1 else sr (clP t n lv) v, μ) := fun q => by
        obtain ⟨e, a1, a2, a3, a4⟩ := sr_n (clP_n (t := t) (n := n) (lv := lv)) n8 h0 h1 (by simp [clP, c, q])
        rw [e]
        exact ih (v + 1) a2 a3 (by omega)
      have bi := brk_i T h0 (show (93 : Int32) ≠ -1 by decide) (by decide) l0 l1
      have lp := fun w (hw : w = 0 ∨ w = 1) => ce_lp T X h0 (Int32.le_trans h1 n8) l1 (mm_closing_2 N j) N 0 w (by decide) l0 (big_d hN) hw (N := N)
      have ends : ∀ b : Int32, (b = 0 ∨ b = 1) → (b = 1 ↔ brk t v 93 = lv) → mm_closing_83 N (mm_closing_2 N j) lv v b μ = some (if n ≤ sr (clP t n lv) v then -1 else sr (clP t n lv) v, μ) := fun b hb hi => by
        rw [mm_closing_83]
        rcases hb with rfl | rfl
        · rw [if_pos rfl, lt]
          exact go (fun q => absurd (hi.mpr q) (by decide))
        · have e : sr (clP t n lv) v = v := sr_y (by simp [clP, hi.mp rfl])
          rw [if_neg (by decide), e, if_neg c]
      rw [if_neg c, sg_t T X h0]
      simp only [bd]
      by_cases q1 : t v = 93
      · rw [if_pos q1, sg_t T X (by clear go ends bi lp ih; lia)]
        simp only
        by_cases q2 : t (v + 1 + lv) = 93
        · rw [if_pos q2, mm_closing_39]
          obtain ⟨b, e1, e2, e3⟩ := lp 1 (.inr rfl)
          rw [e1]
          refine ends b e2 ?_
          rw [e3, bi]
          exact ⟨fun h => ⟨q1, h.2, q2⟩, fun h => ⟨rfl, h.2.1⟩⟩
        · rw [if_neg q2, mm_closing_38, mm_closing_39]
          obtain ⟨b, e1, e2, e3⟩ := lp 0 (.inl rfl)
          rw [e1]
          refine ends b e2 ?_
          rw [e3, bi]
          exact ⟨fun h => absurd h.1 (by decide), fun h => absurd h.2.2 q2⟩
      · rw [if_neg q1, mm_closing_38, mm_closing_39]
        obtain ⟨b, e1, e2, e3⟩ := lp 0 (.inl rfl)
        rw [e1]
        refine ends b e2 ?_
        rw [e3, bi]
        exact ⟨fun h => absurd h.1 (by decide), fun h => absurd h.1 q1⟩
theorem closing_m {N : Nat} (hN : BIG ≤ N) {n : Int32} {t : Int32 → Int32} {μ : mS} (T : TXo n t) (X : TXm n t μ) {i lv : Int32} (h0 : 0 ≤ i) (h1 : i ≤ n) (l0 : 0 ≤ lv) (l1 : lv ≤ 9) : mm_closing N μ i lv = some (cls t n i lv, μ) := clm_lp hN T X l0 l1 N i h0 h1 (big_d hN)
theorem cls_r {n : Int32} {t : Int32 → Int32} (T : TXo n t) {i lv : Int32} (h0 : 0 ≤ i) (h1 : i ≤ n) (l0 : 0 ≤ lv) : cls t n i lv = -1 ∨ (i ≤ cls t n i lv ∧ cls t n i lv < n ∧ brk t (cls t n i lv) 93 = lv ∧ cls t n i lv + 1 + lv < n) := by
  obtain ⟨a, b, c, d⟩ := sr_P (clP_n (t := t) (n := n) (lv := lv)) T.1.2 h0 h1
  rw [cls]
  by_cases q : n ≤ sr (clP t n lv) i
  · rw [if_pos q]; exact .inl rfl
  · rw [if_neg q]
    have l := Int32.not_le.mp q
    have e : brk t (sr (clP t n lv) i) 93 = lv := by
      simp only [clP, Bool.or_eq_true, decide_eq_true_eq] at a
      exact a.resolve_left q
    refine .inr ⟨b, l, e, ?_⟩
    rcases brk_r T (Int32.le_trans h0 b) (show (93 : Int32) ≠ -1 by decide) with w | ⟨_, _, _, w⟩
    · rw [e] at w; rw [w] at l0; exact absurd l0 (by decide)
    · rw [e] at w; exact w
