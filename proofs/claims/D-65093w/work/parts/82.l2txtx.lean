/-! LAYER 2: the system's strings of texts, each once: places -/
theorem pigeon : ∀ (n m : Nat) (f : Nat → Nat), (∀ i, i < m → f i < n) → (∀ i j, i < j → j < m → f i ≠ f j) → m ≤ n
  | 0, m, f, h, _ => by
    rcases Nat.eq_zero_or_pos m with e | e
    · omega
    · exact absurd (h 0 e) (by omega)
  | n + 1, 0, f, h, inj => by omega
  | n + 1, m + 1, f, h, inj => by
    have key : m ≤ n := by
      refine pigeon n m (fun i => if f i < f m then f i else f i - 1) (fun i hi => ?_) (fun i j hij hj => ?_)
      · have a := h i (by omega)
        have b := h m (by omega)
        have c := inj i m (by omega) (by omega)
        show (if f i < f m then f i else f i - 1) < n
        split <;> omega
      · have a := inj i m (by omega) (by omega)
        have b := inj j m (by omega) (by omega)
        have c := inj i j hij (by omega)
        show (if f i < f m then f i else f i - 1) ≠ (if f j < f m then f j else f j - 1)
        split <;> split <;> omega
    omega
/-- the place j steps behind s -/
def plc (s j : Int32) : Int32 := if s + j < 65536 then s + j else s + j - 65536
theorem plc_lo {s j : Int32} (h : s + j < 65536) : plc s j = s + j := if_pos h
theorem plc_hi {s j : Int32} (h : ¬ s + j < 65536) : plc s j = s + j - 65536 := if_neg h
theorem plc_rng {s j : Int32} (h0 : 0 ≤ s) (h1 : s < 65536) (j0 : 0 ≤ j) (j1 : j < 65536) : 0 ≤ plc s j ∧ plc s j < 65536 := by
  simp only [plc]
  by_cases c : s + j < 65536
  · rw [if_pos c]; exact ⟨by lia, c⟩
  · rw [if_neg c]; exact ⟨by lia, by lia⟩
theorem and_65535 {a : Int32} (h0 : 0 ≤ a) (h1 : a ≤ 65536) : a &&& 65535 = if a = 65536 then 0 else a := by
  by_cases c : a = 65536
  · subst c; rfl
  · rw [if_neg c, tI_eq]
    have h : (a &&& 65535).toInt = ((a.toBitVec.toNat % 65536 : Nat) : Int) := by
      rw [← Int32.toInt_toBitVec, Int32.toBitVec_and]
      have : (a.toBitVec &&& (65535 : Int32).toBitVec).toNat = a.toBitVec.toNat % 65536 := by
        rw [BitVec.toNat_and]
        exact Nat.and_two_pow_sub_one_eq_mod _ 16
      rw [BitVec.toInt_eq_toNat_of_lt (by rw [this]; omega), this]
    rw [h]
    have e : a.toInt = (a.toBitVec.toNat : Int) := by
      rw [← Int32.toInt_toBitVec]
      apply BitVec.toInt_eq_toNat_of_msb
      rw [BitVec.msb_eq_toInt]
      simp only [Int32.toInt_toBitVec, decide_eq_false_iff_not]
      rw [tI_le] at h0
      have z : (0 : Int32).toInt = 0 := rfl
      omega
    have l : a.toInt < 65536 := by
      have : a < 65536 := by lia
      rw [tI_lt] at this
      exact this
    omega
theorem and_rng {a : Int32} : 0 ≤ a &&& 65535 ∧ a &&& 65535 < 65536 := by
  have h : (a &&& 65535).toInt = ((a.toBitVec.toNat % 65536 : Nat) : Int) := by
    rw [← Int32.toInt_toBitVec, Int32.toBitVec_and]
    have : (a.toBitVec &&& (65535 : Int32).toBitVec).toNat = a.toBitVec.toNat % 65536 := by
      rw [BitVec.toNat_and]
      exact Nat.and_two_pow_sub_one_eq_mod _ 16
    rw [BitVec.toInt_eq_toNat_of_lt (by rw [this]; omega), this]
  rw [tI_le, tI_lt, h]
  have h1 : (0 : Int32).toInt = 0 := rfl
  have h2 : (65536 : Int32).toInt = 65536 := rfl
  omega
theorem plc_s {s j : Int32} (h0 : 0 ≤ s) (h1 : s < 65536) (j0 : 0 ≤ j) (j1 : j < 65536) : (plc s j + 1) &&& 65535 = plc s (j + 1) := by
  have := plc_rng h0 h1 j0 j1
  rw [and_65535 (by lia) (by lia)]
  by_cases c : s + j < 65536
  · rw [plc_lo c] at this ⊢
    by_cases d : s + (j + 1) < 65536
    · rw [plc_lo d, if_neg (by lia)]; lia
    · rw [plc_hi d, if_pos (by lia)]; lia
  · rw [plc_hi c] at this ⊢
    rw [plc_hi (by lia), if_neg (by lia)]; lia
theorem plc_0 {s : Int32} (h1 : s < 65536) (h0 : 0 ≤ s) : plc s 0 = s := by
  simp only [plc]
  rw [if_pos (by lia)]; lia
theorem plc_inj {s i j : Int32} (h0 : 0 ≤ s) (h1 : s < 65536) (i0 : 0 ≤ i) (i1 : i < 65536) (j0 : 0 ≤ j) (j1 : j < 65536) (e : plc s i = plc s j) : i = j := by
  simp only [plc] at e
  by_cases c : s + i < 65536 <;> by_cases d : s + j < 65536 <;> simp only [if_pos, if_neg, c, d, if_true, if_false] at e <;> lia
def spr (h : Int32) : Int32 := (h ^^^ ((h).toUInt32 >>> (((16 : Int32)).toUInt32 &&& Int32.toUInt32 31)).toInt32) &&& 65535
theorem spr_rng {h : Int32} : 0 ≤ spr h ∧ spr h < 65536 := and_rng
/-- strings of texts: T is behind the last; sl says where each is placed -/
def PL (pl hs : Int32 → Int32) (T : Int32) (sl : Int32 → Int32) : Prop := (∀ h, 12000 ≤ h → h < T → 0 ≤ sl h ∧ sl h < 65536 ∧ pl (sl h) = h + 1 ∧ ∃ j, 0 ≤ j ∧ j < 65536 ∧ sl h = plc (spr (hs h)) j ∧ ∀ i, 0 ≤ i → i < j → 0 < pl (plc (spr (hs h)) i) ∧ pl (plc (spr (hs h)) i) ≤ h) ∧ (∀ p, 0 ≤ p → p < 65536 → pl p = 0 ∨ (12000 < pl p ∧ pl p ≤ T ∧ sl (pl p - 1) = p))
theorem PL_zero {pl hs : Int32 → Int32} {T : Int32} {sl : Int32 → Int32} (H : PL pl hs T sl) (hT : T ≤ 44000) (s : Int32) (s0 : 0 ≤ s) (s1 : s < 65536) : ∃ j, 0 ≤ j ∧ j < 65536 ∧ pl (plc s j) = 0 := by
  apply Classical.byContradiction
  intro hc
  have hc' : ∀ j, 0 ≤ j → j < 65536 → pl (plc s j) ≠ 0 := fun j j0 j1 e => hc ⟨j, j0, j1, e⟩
  have rng : ∀ i, i < 65536 → (0 : Int32) ≤ Int32.ofNat i ∧ Int32.ofNat i < 65536 := by
    intro i hi
    rw [tI_le, tI_lt, i_int (by omega)]
    exact ⟨by show (0 : Int) ≤ _; omega, by show (i : Int) < 65536; omega⟩
  have : 65536 ≤ 44001 := by
    refine pigeon 44001 65536 (fun i => (pl (plc s (Int32.ofNat i))).toNatClampNeg) (fun i hi => ?_) (fun i j hij hj e => ?_)
    · have r := rng i hi
      have p := plc_rng s0 s1 r.1 r.2
      rcases H.2 _ p.1 p.2 with q | q
      · exact absurd q (hc' _ r.1 r.2)
      · have l : pl (plc s (Int32.ofNat i)) ≤ 44000 := by lia
        have l0 : 0 ≤ pl (plc s (Int32.ofNat i)) := by lia
        rw [tI_le] at l l0
        have z : (0 : Int32).toInt = 0 := rfl
        have z2 : (44000 : Int32).toInt = 44000 := rfl
        simp only [tI_cl]
        omega
    · have r := rng i (by omega)
      have r' := rng j hj
      have p := plc_rng s0 s1 r.1 r.2
      have p' := plc_rng s0 s1 r'.1 r'.2
      rcases H.2 _ p.1 p.2 with q | q
      · exact absurd q (hc' _ r.1 r.2)
      rcases H.2 _ p'.1 p'.2 with q' | q'
      · exact absurd q' (hc' _ r'.1 r'.2)
      have e1 : pl (plc s (Int32.ofNat i)) = pl (plc s (Int32.ofNat j)) := cl_inj (by lia) (by lia) e
      have e2 : plc s (Int32.ofNat i) = plc s (Int32.ofNat j) := by rw [← q.2.2, ← q'.2.2, e1]
      have e3 := plc_inj s0 s1 r.1 r.2 r'.1 r'.2 e2
      rw [tI_eq, i_int (by omega), i_int (by omega)] at e3
      omega
  omega
theorem PL_cut {pl pm hs : Int32 → Int32} {T : Int32} {sl : Int32 → Int32} (H : PL pl hs (T + 1) sl) (hT : 12000 ≤ T) (hT' : T < 44000) (h1 : pm (sl T) = 0) (h2 : ∀ p, 0 ≤ p → p < 65536 → p ≠ sl T → pm p = pl p) : PL pm hs T sl := by
  refine ⟨fun h h0 h3 => ?_, fun p p0 p1 => ?_⟩
  · obtain ⟨a, b, c, j, j0, j1, d, e⟩ := H.1 h h0 (by lia)
    have t := H.1 T hT (by lia)
    refine ⟨a, b, ?_, j, j0, j1, d, fun i i0 i1 => ?_⟩
    · rw [h2 _ a b (fun q => by rw [q] at c; have := t.2.2.1; lia)]; exact c
    · have q := e i i0 i1
      have s := plc_rng (@spr_rng (hs h)).1 (@spr_rng (hs h)).2 i0 (by lia)
      rw [h2 _ s.1 s.2 (fun w => by rw [w] at q; have := t.2.2.1; lia)]; exact q
  · have t := H.1 T hT (by lia)
    by_cases c : p = sl T
    · left; rw [c]; exact h1
    · rw [h2 p p0 p1 c]
      rcases H.2 p p0 p1 with q | q
      · exact .inl q
      · refine .inr ⟨q.1, ?_, q.2.2⟩
        have : pl p ≠ T + 1 := fun w => c (by rw [← q.2.2, w, show T + 1 - 1 = T by lia])
        lia
theorem PL_add {pl pm hs hs' : Int32 → Int32} {T j : Int32} {sl : Int32 → Int32} (H : PL pl hs T sl) (hT : 12000 ≤ T) (hT' : T < 44000) (hh : ∀ h, 12000 ≤ h → h < T → hs' h = hs h) (j0 : 0 ≤ j) (j1 : j < 65536) (hz : pl (plc (spr (hs' T)) j) = 0) (hp : ∀ i, 0 ≤ i → i < j → pl (plc (spr (hs' T)) i) ≠ 0) (h1 : pm (plc (spr (hs' T)) j) = T + 1) (h2 : ∀ p, 0 ≤ p → p < 65536 → p ≠ plc (spr (hs' T)) j → pm p = pl p) : PL pm hs' (T + 1) (fun h => if h = T then plc (spr (hs' T)) j else sl h) := by
  have r := plc_rng (@spr_rng (hs' T)).1 (@spr_rng (hs' T)).2 j0 j1
  have ne : ∀ p, 0 ≤ p → p < 65536 → pl p ≠ 0 → p ≠ plc (spr (hs' T)) j := fun p _ _ q w => q (by rw [w]; exact hz)
  refine ⟨fun h h0 h3 => ?_, fun p p0 p1 => ?_⟩
  · by_cases c : h = T
    · subst c
      simp only [if_true]
      refine ⟨r.1, r.2, h1, j, j0, j1, rfl, fun i i0 i1 => ?_⟩
      have s := plc_rng (@spr_rng (hs' h)).1 (@spr_rng (hs' h)).2 i0 (by lia)
      rw [h2 _ s.1 s.2 (ne _ s.1 s.2 (hp i i0 i1))]
      rcases H.2 _ s.1 s.2 with q | q
      · exact absurd q (hp i i0 i1)
      · exact ⟨by lia, by lia⟩
    · dsimp only
      rw [if_neg c]
      obtain ⟨a, b, d, k, k0, k1, e, f⟩ := H.1 h h0 (by lia)
      rw [hh h h0 (by lia)]
      refine ⟨a, b, by rw [h2 _ a b (ne _ a b (by lia))]; exact d, k, k0, k1, e, fun i i0 i1 => ?_⟩
      have s := plc_rng (@spr_rng (hs h)).1 (@spr_rng (hs h)).2 i0 (by lia)
      have q := f i i0 i1
      rw [h2 _ s.1 s.2 (ne _ s.1 s.2 (by lia))]
      exact q
  · by_cases c : p = plc (spr (hs' T)) j
    · right
      rw [c, h1, show T + 1 - 1 = T by lia]
      simp only [if_true]
      exact ⟨by lia, by lia, trivial⟩
    · rw [h2 p p0 p1 c]
      rcases H.2 p p0 p1 with q | q
      · exact .inl q
      · refine .inr ⟨q.1, by lia, ?_⟩
        dsimp only
        obtain ⟨q1, q2, q3⟩ := q
        rw [if_neg (by lia)]
        exact q3
