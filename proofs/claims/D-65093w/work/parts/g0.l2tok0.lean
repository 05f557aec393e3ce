/-! LAYER 2: the text and its bytes; searches -/
/-- a text of n bytes: t says which byte stands where, -1 behind the end -/
def TXo (n : Int32) (t : Int32 → Int32) : Prop := (0 ≤ n ∧ n ≤ 8000) ∧ (∀ k, n ≤ k → t k = -1) ∧ (∀ k, 0 ≤ k → k < n → 0 ≤ t k ∧ t k ≤ 255)
def TXx (n : Int32) (t : Int32 → Int32) (σ : mS) : Prop := sF σ 706 = n ∧ sF σ 705 = 1 ∧ ∀ k, 0 ≤ k → k < n → sI σ 12 k &&& 255 = t k
def TXm (n : Int32) (t : Int32 → Int32) (μ : mS) : Prop := sF μ 1 = n ∧ ∀ k, 0 ≤ k → k < n → sI μ 0 k &&& 255 = t k
theorem at_t {N : Nat} {n : Int32} {t : Int32 → Int32} {σ : mS} (T : TXo n t) (X : TXx n t σ) {k : Int32} (k0 : 0 ≤ k) : xx11_at N σ k = some (t k, σ) := by
  obtain ⟨x1, x2, x3⟩ := X
  rw [xx11_at]
  simp only [sF_fold, sI_fold]
  rw [x1]
  by_cases c : n ≤ k
  · rw [if_pos c, T.2.1 k c]; rfl
  · have l := Int32.not_le.mp c
    rw [if_neg c, x2, show decide ((1 : Int32) = 1) = true from rfl, gd_tt, gd_in (by decide) k0 (Int32.lt_of_lt_of_le l T.1.2), x3 k k0 l]
    rfl
theorem sg_t {N : Nat} {n : Int32} {t : Int32 → Int32} {μ : mS} (T : TXo n t) (X : TXm n t μ) {k : Int32} (k0 : 0 ≤ k) : mm_sign N μ k = some (t k, μ) := by
  obtain ⟨x1, x3⟩ := X
  rw [mm_sign]
  simp only [sF_fold, sI_fold]
  rw [x1]
  by_cases c : n ≤ k
  · rw [if_pos c, T.2.1 k c]; rfl
  · have l := Int32.not_le.mp c
    rw [if_neg c, gd_in (by decide) k0 (Int32.lt_of_lt_of_le l T.1.2), x3 k k0 l]
    rfl
/-- the first place from v on -/
def srch (P : Int32 → Bool) : Nat → Int32 → Int32
  | 0, v => v
  | j + 1, v => if P v = true then v else srch P j (v + 1)
def sr (P : Int32 → Bool) (v : Int32) : Int32 := srch P 9000 v
theorem sc_1 {v m : Int32} (h0 : 0 ≤ v) (h1 : v ≤ m) (h2 : m ≤ 8000) (ne : v ≠ m) : 0 ≤ v + 1 ∧ v + 1 ≤ m ∧ (m.toInt - (v + 1).toInt).toNat + 1 = (m.toInt - v.toInt).toNat ∧ v < m := by
  have l : v < m := by lia
  have e : (v + 1).toInt = v.toInt + 1 := tI_inc h0 (by lia)
  have a := tI_lt.mp l
  exact ⟨by lia, by lia, by omega, l⟩
theorem srch_f {P : Int32 → Bool} {m : Int32} (hm : P m = true) (m1 : m ≤ 8000) : ∀ (j j' : Nat) (v : Int32), 0 ≤ v → v ≤ m → (m.toInt - v.toInt).toNat < j → (m.toInt - v.toInt).toNat < j' → srch P j v = srch P j' v
  | 0, _, _, _, _, h, _ => by omega
  | _ + 1, 0, _, _, _, _, h => by omega
  | j + 1, j' + 1, v, h0, h1, hj, hj' => by
    rw [srch, srch]
    by_cases c : P v = true
    · rw [if_pos c, if_pos c]
    · have ne : v ≠ m := fun e => c (by rw [e]; exact hm)
      obtain ⟨a1, a2, a3, _⟩ := sc_1 h0 h1 m1 ne
      rw [if_neg c, if_neg c]
      exact srch_f hm m1 j j' (v + 1) a1 a2 (by omega) (by omega)
theorem sc_2 {v m : Int32} (h0 : 0 ≤ v) (h2 : m ≤ 8000) : (m.toInt - v.toInt).toNat < 8500 := by
  rw [tI_le] at h0 h2
  rw [show (0 : Int32).toInt = 0 from rfl] at h0
  rw [show (8000 : Int32).toInt = 8000 from rfl] at h2
  omega
theorem sr_y {P : Int32 → Bool} {v : Int32} (h : P v = true) : sr P v = v := by
  rw [sr, srch, if_pos h]
theorem sr_n {P : Int32 → Bool} {v m : Int32} (hm : P m = true) (m1 : m ≤ 8000) (h0 : 0 ≤ v) (h1 : v ≤ m) (h : ¬ P v = true) : sr P v = sr P (v + 1) ∧ v < m ∧ 0 ≤ v + 1 ∧ v + 1 ≤ m ∧ (m.toInt - (v + 1).toInt).toNat + 1 = (m.toInt - v.toInt).toNat := by
  have ne : v ≠ m := fun e => h (by rw [e]; exact hm)
  obtain ⟨a1, a2, a3, a4⟩ := sc_1 h0 h1 m1 ne
  have q1 := sc_2 h0 m1
  refine ⟨?_, a4, a1, a2, a3⟩
  rw [sr, srch, if_neg h, sr]
  exact srch_f hm m1 _ _ (v + 1) a1 a2 (by omega) (by omega)
theorem sr_p {P : Int32 → Bool} {m : Int32} (hm : P m = true) (m1 : m ≤ 8000) : ∀ (j : Nat) (v : Int32), 0 ≤ v → v ≤ m → (m.toInt - v.toInt).toNat < j → P (sr P v) = true ∧ v ≤ sr P v ∧ sr P v ≤ m ∧ ∀ k, v ≤ k → k < sr P v → ¬ P k = true := by
  intro j
  induction j with
  | zero => intro v _ _ h; omega
  | succ j ih =>
    intro v h0 h1 hj
    by_cases c : P v = true
    · rw [sr_y c]
      exact ⟨c, Int32.le_refl _, h1, fun k k0 k1 => absurd (Int32.lt_of_le_of_lt k0 k1) Int32.lt_irrefl⟩
    · obtain ⟨e, a4, a1, a2, a3⟩ := sr_n hm m1 h0 h1 c
      obtain ⟨b1, b2, b3, b4⟩ := ih (v + 1) a1 a2 (by omega)
      rw [e]
      refine ⟨b1, ?_, b3, fun k k0 k1 => ?_⟩
      · clear b4 b1 ih
        lia
      · by_cases q : k = v
        · rw [q]; exact c
        · exact b4 k (by clear b4 b1 ih; lia) k1
theorem sr_P {P : Int32 → Bool} {v m : Int32} (hm : P m = true) (m1 : m ≤ 8000) (h0 : 0 ≤ v) (h1 : v ≤ m) : P (sr P v) = true ∧ v ≤ sr P v ∧ sr P v ≤ m ∧ ∀ k, v ≤ k → k < sr P v → ¬ P k = true := sr_p hm m1 _ v h0 h1 (Nat.lt_succ_self _)
/-- it is the only one -/
theorem sr_u {P : Int32 → Bool} {v r : Int32} (h0 : 0 ≤ v) (h1 : v ≤ r) (m1 : r ≤ 8000) (hr : P r = true) (hk : ∀ k, v ≤ k → k < r → ¬ P k = true) : sr P v = r := by
  obtain ⟨b1, b2, b3, b4⟩ := sr_P hr m1 h0 h1
  by_cases c : sr P v = r
  · exact c
  · exact absurd b1 (hk _ b2 (by clear hk b4 b1; lia))
/-- kinds of bytes -/
def isLt (c : Int32) : Bool := decide ((65 ≤ c ∧ c ≤ 90) ∨ (97 ≤ c ∧ c ≤ 122) ∨ c = 95)
def isDg (c : Int32) : Bool := decide (48 ≤ c ∧ c ≤ 57)
def isBk (c : Int32) : Bool := decide ((9 ≤ c ∧ c ≤ 13) ∨ c = 32)
def wth (c : Int32) : Int32 := if isDg c = true then c - 48 else if 97 ≤ c ∧ c ≤ 102 then c - 97 + 10 else if 65 ≤ c ∧ c ≤ 70 then c - 65 + 10 else -1
def b01 (b : Bool) : Int32 := if b = true then 1 else 0
theorem b01_0 {b : Bool} : b01 b = 0 ↔ ¬ b = true := by
  cases b <;> simp [b01]
theorem lt_t {N : Nat} {σ : mS} {c : Int32} : xx0_isLetter N σ c = some (b01 (isLt c), σ) := by
  simp only [xx0_isLetter, xx0_isLetter_b12, xx0_isLetter_b24, xx0_isLetter_b30, xx0_isLetter_b35, gd_z1, gd_z0]
  by_cases q : isLt c = true
  · have e : b01 (isLt c) = 1 := by rw [q]; rfl
    rw [e]
    simp only [isLt, decide_eq_true_eq] at q
    split
    · split
      · split
        · rfl
        · exfalso; lia
      · split
        · rfl
        · split
          · rfl
          · exfalso; lia
    · split
      · rfl
      · split
        · split
          · rfl
          · exfalso; lia
        · split
          · rfl
          · split
            · rfl
            · exfalso; lia
  · have e : b01 (isLt c) = 0 := b01_0.mpr q
    rw [e]
    simp only [isLt, decide_eq_true_eq] at q
    split
    · split
      · split
        · exfalso; lia
        · rfl
      · split
        · exfalso; lia
        · split
          · exfalso; lia
          · rfl
    · split
      · exfalso; lia
      · split
        · split
          · exfalso; lia
          · rfl
        · split
          · exfalso; lia
          · split
            · exfalso; lia
            · rfl
theorem lt_m {N : Nat} {σ : mS} {c : Int32} : mm_isLetter N σ c = some (b01 (isLt c), σ) := lt_t (N := N)
theorem dg_t {N : Nat} {σ : mS} {c : Int32} : xx0_isDigit N σ c = some (b01 (isDg c), σ) := by
  simp only [xx0_isDigit, xx0_isDigit_b16, xx0_isDigit_b17, gd_z1, gd_z0]
  by_cases q : isDg c = true
  · have e : b01 (isDg c) = 1 := by rw [q]; rfl
    rw [e]
    simp only [isDg, decide_eq_true_eq] at q
    rw [if_neg (Int32.not_lt.mpr q.1), if_neg (Int32.not_lt.mpr q.2)]
  · have e : b01 (isDg c) = 0 := b01_0.mpr q
    rw [e]
    simp only [isDg, decide_eq_true_eq] at q
    split
    · rfl
    · split
      · rfl
      · exfalso; lia
theorem dgt_m {N : Nat} {σ : mS} {c : Int32} : mm_isDigit N σ c = some (b01 (isDg c), σ) := dg_t (N := N)
theorem bk_t {N : Nat} {σ : mS} {c : Int32} : xx0_isBlank N σ c = some (b01 (isBk c), σ) := by
  simp only [xx0_isBlank, xx0_isBlank_b12, xx0_isBlank_b18, xx0_isBlank_b23, gd_z1, gd_z0]
  by_cases q : isBk c = true
  · have e : b01 (isBk c) = 1 := by rw [q]; rfl
    rw [e]
    simp only [isBk, decide_eq_true_eq] at q
    split
    · split
      · rfl
      · exfalso; lia
    · split
      · rfl
      · split
        · rfl
        · exfalso; lia
  · have e : b01 (isBk c) = 0 := b01_0.mpr q
    rw [e]
    simp only [isBk, decide_eq_true_eq] at q
    split
    · split
      · exfalso; lia
      · rfl
    · split
      · exfalso; lia
      · split
        · exfalso; lia
        · rfl
theorem bkt_m {N : Nat} {σ : mS} {c : Int32} : mm_isBlank N σ c = some (b01 (isBk c), σ) := bk_t (N := N)
theorem wo_t {N : Nat} {σ : mS} {c : Int32} : xx0_worth N σ c = some (wth c, σ) := by
  rw [xx0_worth, dg_t]
  simp only [bd, xx0_worth_b34, xx0_worth_b56, xx0_worth_b57]
  by_cases q : isDg c = true
  · rw [if_neg (fun e => b01_0.mp e q), wth, if_pos q]
  · rw [if_pos (b01_0.mpr q), wth, if_neg q]
    by_cases q1 : 97 ≤ c ∧ c ≤ 102
    · rw [if_neg (Int32.not_lt.mpr q1.1), if_neg (Int32.not_lt.mpr q1.2), if_pos q1]
    · rw [if_neg q1]
      have rest : (if c < 65 then some ((-1 : Int32), σ) else if 70 < c then some (-1, σ) else some (c - 65 + 10, σ)) = some (if 65 ≤ c ∧ c ≤ 70 then c - 65 + 10 else -1, σ) := by
        by_cases q2 : 65 ≤ c ∧ c ≤ 70
        · rw [if_neg (Int32.not_lt.mpr q2.1), if_neg (Int32.not_lt.mpr q2.2), if_pos q2]
        · rw [if_neg q2]
          split
          · rfl
          · split
            · rfl
            · exfalso; clear q q1; lia
      by_cases c1 : c < 97
      · rw [if_pos c1]; exact rest
      · rw [if_neg c1, if_pos (by clear q rest; lia)]; exact rest
theorem wot_m {N : Nat} {σ : mS} {c : Int32} : mm_hex N σ c = some (wth c, σ) := by
  have := wo_t (N := N) (σ := σ) (c := c)
  rw [xx0_worth, dg_t] at this
  rw [mm_hex, dgt_m]
  exact this
