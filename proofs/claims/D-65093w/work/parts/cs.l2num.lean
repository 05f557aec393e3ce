/-! LAYER 2: functions of the house: tonumber: tests of bytes, blanks -/
def blP (y : Int32) : Prop := (9 ≤ y ∧ y ≤ 13) ∨ y = 32
def blB (y : Int32) : Bool := (decide (9 ≤ y) && decide (y ≤ 13)) || decide (y = 32)
theorem bl_x {N : Nat} {σ : mS} {x : Int32} : xx0_isBlank N σ x = some (if blB x then 1 else 0, σ) := by
  have b12 : ∀ x : Int32, ¬ (9 ≤ x ∧ x ≤ 13) → xx0_isBlank_b12 N x σ = some (if blB x then 1 else 0, σ) := fun x h => by
    have e : (decide (9 ≤ x) && decide (x ≤ 13)) = false := by
      rw [Bool.eq_false_iff]; intro q; rw [Bool.and_eq_true, decide_eq_true_eq, decide_eq_true_eq] at q; exact h q
    rw [xx0_isBlank_b12, blB, e, Bool.false_or]
    by_cases c : x = 32
    · rw [if_pos c, if_pos (by rw [decide_eq_true_eq]; exact c)]; rfl
    · rw [if_neg c, if_neg (by rw [decide_eq_true_eq]; exact c)]; rfl
  rw [xx0_isBlank]
  by_cases c1 : x < 9
  · rw [if_pos c1]; exact b12 x (fun q => by lia)
  · rw [if_neg c1]
    by_cases c2 : x ≤ 13
    · have e : blB x = true := by
        rw [blB, decide_eq_true (show 9 ≤ x by lia), decide_eq_true c2]; rfl
      rw [if_pos c2, e]; rfl
    · rw [if_neg c2]; exact b12 x (fun q => c2 q.2)
theorem bl_m {N : Nat} {σ : mS} {x : Int32} : mm_isBlank N σ x = some (if blB x then 1 else 0, σ) := by
  have b12 : ∀ x : Int32, ¬ (9 ≤ x ∧ x ≤ 13) → mm_isBlank_12 N x σ = some (if blB x then 1 else 0, σ) := fun x h => by
    have e : (decide (9 ≤ x) && decide (x ≤ 13)) = false := by
      rw [Bool.eq_false_iff]; intro q; rw [Bool.and_eq_true, decide_eq_true_eq, decide_eq_true_eq] at q; exact h q
    rw [mm_isBlank_12, blB, e, Bool.false_or]
    by_cases c : x = 32
    · rw [if_pos c, if_pos (by rw [decide_eq_true_eq]; exact c)]; rfl
    · rw [if_neg c, if_neg (by rw [decide_eq_true_eq]; exact c)]; rfl
  rw [mm_isBlank]
  by_cases c1 : x < 9
  · rw [if_pos c1]; exact b12 x (fun q => by lia)
  · rw [if_neg c1]
    by_cases c2 : x ≤ 13
    · have e : blB x = true := by
        rw [blB, decide_eq_true (show 9 ≤ x by lia), decide_eq_true c2]; rfl
      rw [if_pos c2, e]; rfl
    · rw [if_neg c2]; exact b12 x (fun q => c2 q.2)
theorem bl_B {x : Int32} (h : isB x) : blB x = blB (x &&& 255) := isB_all (P := fun x => blB x = blB (x &&& 255)) (by decide +kernel) h
/-- digits -/
def dgB' (y : Int32) : Bool := decide (48 ≤ y) && decide (y ≤ 57)
theorem dg_x {N : Nat} {σ : mS} {x : Int32} : xx0_isDigit N σ x = some (if dgB' x then 1 else 0, σ) := by
  rw [xx0_isDigit, dgB']
  by_cases c1 : x < 48
  · rw [if_pos c1, decide_eq_false (show ¬ 48 ≤ x by lia)]; rfl
  · rw [if_neg c1, decide_eq_true (show 48 ≤ x by lia)]
    by_cases c2 : 57 < x
    · rw [if_pos c2, decide_eq_false (show ¬ x ≤ 57 by lia)]; rfl
    · rw [if_neg c2, decide_eq_true (show x ≤ 57 by lia)]; rfl
theorem dg_m {N : Nat} {σ : mS} {x : Int32} : mm_isDigit N σ x = some (if dgB' x then 1 else 0, σ) := by
  rw [mm_isDigit, dgB']
  by_cases c1 : x < 48
  · rw [if_pos c1, decide_eq_false (show ¬ 48 ≤ x by lia)]; rfl
  · rw [if_neg c1, decide_eq_true (show 48 ≤ x by lia)]
    by_cases c2 : 57 < x
    · rw [if_pos c2, decide_eq_false (show ¬ x ≤ 57 by lia)]; rfl
    · rw [if_neg c2, decide_eq_true (show x ≤ 57 by lia)]; rfl
theorem dg_B {x : Int32} (h : isB x) : dgB' x = dgB' (x &&& 255) := isB_all (P := fun x => dgB' x = dgB' (x &&& 255)) (by decide +kernel) h
def woV (y : Int32) : Int32 := if dgB' y then y - 48 else if y < 97 then (if y < 65 then -1 else if 70 < y then -1 else y - 65 + 10) else if 102 < y then (if y < 65 then -1 else if 70 < y then -1 else y - 65 + 10) else y - 97 + 10
theorem wo_x {N : Nat} {σ : mS} {x : Int32} : xx0_worth N σ x = some (woV x, σ) := by
  have b34 : xx0_worth_b34 N x σ = some (if x < 65 then -1 else if 70 < x then -1 else x - 65 + 10, σ) := by
    rw [xx0_worth_b34]; split
    · rfl
    · split <;> rfl
  rw [xx0_worth, dg_x, bd_so, woV]
  dsimp only
  cases dgB' x
  · simp only [Bool.false_eq_true, if_false, if_true, b34]
    split
    · rfl
    · split <;> rfl
  · simp only [if_true, i10, if_false]
theorem wo_m {N : Nat} {σ : mS} {x : Int32} : mm_hex N σ x = some (woV x, σ) := by
  have b34 : mm_hex_36 N x σ = some (if x < 65 then -1 else if 70 < x then -1 else x - 65 + 10, σ) := by
    rw [mm_hex_36]; split
    · rfl
    · split <;> rfl
  rw [mm_hex, dg_m, bd_so, woV]
  dsimp only
  cases dgB' x
  · simp only [Bool.false_eq_true, if_false, if_true, b34]
    split
    · rfl
    · split <;> rfl
  · simp only [if_true, i10, if_false, mm_hex_59]
theorem wo_B {x : Int32} (h : isB x) : woV x = woV (x &&& 255) := isB_all (P := fun x => woV x = woV (x &&& 255)) (by decide +kernel) h
def waV (y : Int32) : Int32 := if dgB' y then y - 48 else if y < 97 then (if y < 65 then 99 else if 90 < y then 99 else y - 65 + 10) else if 122 < y then (if y < 65 then 99 else if 90 < y then 99 else y - 65 + 10) else y - 97 + 10
theorem wa_x {N : Nat} {σ : mS} {x : Int32} : xx8_worthOfAny N σ x = some (waV x, σ) := by
  have b34 : xx8_worthOfAny_b34 N x σ = some (if x < 65 then 99 else if 90 < x then 99 else x - 65 + 10, σ) := by
    rw [xx8_worthOfAny_b34]; split
    · rfl
    · split <;> rfl
  rw [xx8_worthOfAny, dg_x, bd_so, waV]
  dsimp only
  cases dgB' x
  · simp only [Bool.false_eq_true, if_false, if_true, b34]
    split
    · rfl
    · split <;> rfl
  · simp only [if_true, i10, if_false]
theorem wa_m {N : Nat} {σ : mS} {x : Int32} : mm_digit N σ x = some (waV x, σ) := by
  have b34 : mm_digit_36 N x σ = some (if x < 65 then 99 else if 90 < x then 99 else x - 65 + 10, σ) := by
    rw [mm_digit_36]; split
    · rfl
    · split <;> rfl
  rw [mm_digit, dg_m, bd_so, waV]
  dsimp only
  cases dgB' x
  · simp only [Bool.false_eq_true, if_false, if_true, b34]
    split
    · rfl
    · split <;> rfl
  · simp only [if_true, i10, if_false, mm_digit_60]
theorem wa_B {x : Int32} (h : isB x) : waV x = waV (x &&& 255) := isB_all (P := fun x => waV x = waV (x &&& 255)) (by decide +kernel) h
/-- behind blanks -/
def skL (l : List Int32) (k : Nat) : Nat := k + ((l.drop k).takeWhile blB).length
theorem sk_go {l : List Int32} {k : Nat} (h : k < l.length) (b : blB (l.getD k 0) = true) : skL l k = skL l (k + 1) := by
  rw [skL, skL, dr_1 h, List.takeWhile_cons, if_pos b, List.length_cons]; omega
theorem sk_no {l : List Int32} {k : Nat} (h : k < l.length) (b : blB (l.getD k 0) = false) : skL l k = k := by
  rw [skL, dr_1 h, List.takeWhile_cons, if_neg (by rw [b]; decide)]; rfl
theorem sk_end {l : List Int32} {k : Nat} (h : k = l.length) : skL l k = k := by
  rw [skL, h, List.drop_length]; rfl
theorem sk_le {l : List Int32} {k : Nat} (h : k ≤ l.length) : k ≤ skL l k ∧ skL l k ≤ l.length := by
  rw [skL]
  have : ((l.drop k).takeWhile blB).length ≤ (l.drop k).length := (List.takeWhile_sublist blB).length_le
  rw [List.length_drop] at this
  omega
/-- what is at hand: the text in both rows -/
def TT (l : List Int32) (σ μ : mS) : Prop := l.length ≤ 4000 ∧ hasL (σ.2.2.1 520) 0 l ∧ hB (σ.2.2.1 520) l.length ∧ sF μ 224 = Int32.ofNat l.length ∧ hasL (μ.2.2.1 223) 0 l ∧ hB (μ.2.2.1 223) l.length
theorem TT_x {l : List Int32} {σ μ : mS} (T : TT l σ μ) {k : Nat} (h : k < l.length) : isB (σ.2.2.1 520 k) ∧ σ.2.2.1 520 k &&& 255 = l.getD k 0 := ⟨T.2.2.1 k h, hL0 T.2.1 h⟩
theorem TT_m {l : List Int32} {σ μ : mS} (T : TT l σ μ) {k : Nat} (h : k < l.length) : isB (μ.2.2.1 223 k) ∧ μ.2.2.1 223 k &&& 255 = l.getD k 0 := ⟨T.2.2.2.2.2 k h, hL0 T.2.2.2.2.1 h⟩
theorem oN_nle {a b : Nat} (ha : a ≤ 100000) (h : b < a) : ¬ Int32.ofNat a ≤ Int32.ofNat b := fun q => by rw [oN_le (by omega) (by omega)] at q; omega
def atL (l : List Int32) (k : Nat) : Int32 := if k < l.length then l.getD k 0 else -1
theorem at_m {N : Nat} {l : List Int32} {σ μ : mS} (T : TT l σ μ) {k : Nat} (hk : k ≤ 10000) : mm_at N μ (Int32.ofNat k) = some (atL l k, μ) := by
  have h4 := T.1
  rw [mm_at, sF_fold, T.2.2.2.1, atL]
  by_cases c : k < l.length
  · rw [if_neg (oN_nle (by omega) c), gd_oN (by omega) (by decide), oN_cl (by omega), (TT_m T c).2, if_pos c]; rfl
  · rw [if_pos (by rw [oN_le (by omega) (by omega)]; omega), if_neg c]; rfl
theorem sk_t {N : Nat} {l : List Int32} {σ μ : mS} (T : TT l σ μ) : ∀ (c k n : Nat), k + c = l.length → c < n → xx8_ofText_b2 N n (Int32.ofNat l.length) (Int32.ofNat k) σ = xx8_ofText_b25 N (Int32.ofNat l.length) (Int32.ofNat (skL l k)) σ := by
  have h4 := T.1
  intro c
  induction c with
  | zero =>
    intro k n hk hn
    obtain ⟨n, rfl⟩ : ∃ j, n = j + 1 := ⟨n - 1, by omega⟩
    rw [xx8_ofText_b2, if_pos (by rw [oN_le (by omega) (by omega)]; omega), sk_end (by omega)]
  | succ c ih =>
    intro k n hk hn
    obtain ⟨n, rfl⟩ : ∃ j, n = j + 1 := ⟨n - 1, by omega⟩
    obtain ⟨b1, b2⟩ := TT_x T (k := k) (by omega)
    rw [xx8_ofText_b2, if_neg (oN_nle (by omega) (by omega)), gd_oN (by omega) (by decide), oN_cl (by omega), bl_x, bd_so, bl_B b1, b2]
    dsimp only
    cases e : blB (l.getD k 0)
    · rw [if_neg (show ¬ false = true by decide), if_pos rfl, sk_no (by omega) e]
    · rw [if_pos rfl, if_neg (show ¬ (1 : Int32) = 0 by decide), lt, oN_s, ih (k + 1) n (by omega) (by omega), sk_go (by omega) e]
theorem sk_b {N : Nat} {l : List Int32} {b : Int32} {σ μ : mS} (T : TT l σ μ) : ∀ (c k n : Nat), k + c = l.length → c < n → xx8_ofBase_b2 N n (Int32.ofNat l.length) b (Int32.ofNat k) σ = xx8_ofBase_b25 N (Int32.ofNat l.length) b (Int32.ofNat (skL l k)) σ := by
  have h4 := T.1
  intro c
  induction c with
  | zero =>
    intro k n hk hn
    obtain ⟨n, rfl⟩ : ∃ j, n = j + 1 := ⟨n - 1, by omega⟩
    rw [xx8_ofBase_b2, if_pos (by rw [oN_le (by omega) (by omega)]; omega), sk_end (by omega)]
  | succ c ih =>
    intro k n hk hn
    obtain ⟨n, rfl⟩ : ∃ j, n = j + 1 := ⟨n - 1, by omega⟩
    obtain ⟨b1, b2⟩ := TT_x T (k := k) (by omega)
    rw [xx8_ofBase_b2, if_neg (oN_nle (by omega) (by omega)), gd_oN (by omega) (by decide), oN_cl (by omega), bl_x, bd_so, bl_B b1, b2]
    dsimp only
    cases e : blB (l.getD k 0)
    · rw [if_neg (show ¬ false = true by decide), if_pos rfl, sk_no (by omega) e]
    · rw [if_pos rfl, if_neg (show ¬ (1 : Int32) = 0 by decide), lt, oN_s, ih (k + 1) n (by omega) (by omega), sk_go (by omega) e]
theorem sk_w {N : Nat} {l : List Int32} {g : Int32} {v : Int64} {σ μ : mS} (T : TT l σ μ) : ∀ (c k n : Nat), k + c = l.length → c < n → xx8_giveWorth_b3 N n (Int32.ofNat l.length) g v (Int32.ofNat k) σ = xx8_giveWorth_b28 N (Int32.ofNat l.length) g v (Int32.ofNat (skL l k)) σ := by
  have h4 := T.1
  intro c
  induction c with
  | zero =>
    intro k n hk hn
    obtain ⟨n, rfl⟩ : ∃ j, n = j + 1 := ⟨n - 1, by omega⟩
    rw [xx8_giveWorth_b3, if_pos (by rw [oN_le (by omega) (by omega)]; omega), sk_end (by omega)]
  | succ c ih =>
    intro k n hk hn
    obtain ⟨n, rfl⟩ : ∃ j, n = j + 1 := ⟨n - 1, by omega⟩
    obtain ⟨b1, b2⟩ := TT_x T (k := k) (by omega)
    rw [xx8_giveWorth_b3, if_neg (oN_nle (by omega) (by omega)), gd_oN (by omega) (by decide), oN_cl (by omega), bl_x, bd_so, bl_B b1, b2]
    dsimp only
    cases e : blB (l.getD k 0)
    · rw [if_neg (show ¬ false = true by decide), if_pos rfl, sk_no (by omega) e]
    · rw [if_pos rfl, if_neg (show ¬ (1 : Int32) = 0 by decide), lt, oN_s, ih (k + 1) n (by omega) (by omega), sk_go (by omega) e]
theorem sk_m {N : Nat} {l : List Int32} {σ μ : mS} (T : TT l σ μ) : ∀ (c k n : Nat), k + c = l.length → c < n → mm_skip_2 N n (Int32.ofNat k) μ = some (Int32.ofNat (skL l k), μ) := by
  have h4 := T.1
  intro c
  induction c with
  | zero =>
    intro k n hk hn
    obtain ⟨n, rfl⟩ : ∃ j, n = j + 1 := ⟨n - 1, by omega⟩
    rw [mm_skip_2, sF_fold, T.2.2.2.1, if_pos (by rw [oN_le (by omega) (by omega)]; omega), sk_end (by omega)]; rfl
  | succ c ih =>
    intro k n hk hn
    obtain ⟨n, rfl⟩ : ∃ j, n = j + 1 := ⟨n - 1, by omega⟩
    obtain ⟨b1, b2⟩ := TT_m T (k := k) (by omega)
    rw [mm_skip_2, sF_fold, T.2.2.2.1, if_neg (oN_nle (by omega) (by omega)), gd_oN (by omega) (by decide), oN_cl (by omega), bl_m, bd_so, bl_B b1, b2]
    dsimp only
    cases e : blB (l.getD k 0)
    · rw [if_neg (show ¬ false = true by decide), if_pos rfl, sk_no (by omega) e]; rfl
    · rw [if_pos rfl, if_neg (show ¬ (1 : Int32) = 0 by decide), lt, oN_s, ih (k + 1) n (by omega) (by omega), sk_go (by omega) e]
