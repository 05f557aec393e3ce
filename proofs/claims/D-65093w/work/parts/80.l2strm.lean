/-! LAYER 2: the reference's strings -/
def m_sz (σ : mS) (h : Int32) : Int32 := sI σ 3 h
def m_by (σ : mS) (h k : Int32) : Int32 := (if h < 30000 then sI σ 7 (sI σ 2 h + k) else sI σ 10 (sI σ 2 h + k)) &&& 255
def m_sv (σ : mS) (h : Int32) : Prop := 0 ≤ h ∧ h < 42000 ∧ 0 ≤ sI σ 2 h ∧ 0 ≤ sI σ 3 h ∧ sI σ 2 h ≤ 300000 ∧ sI σ 3 h ≤ 300000 ∧ sI σ 2 h + sI σ 3 h ≤ 300000 ∧ (h < 30000 → sI σ 2 h + sI σ 3 h ≤ 72000)
def m_eq (σ : mS) (a b : Int32) : Prop := m_sz σ b = m_sz σ a ∧ ∀ k, 0 ≤ k → k < m_sz σ a → m_by σ a k = m_by σ b k
def m_hs (σ : mS) (h : Int32) : Prop := sI σ 4 h = hof 7 (m_by σ h) (m_sz σ h)
theorem mhs_eq {σ : mS} {a b : Int32} (hv : 0 ≤ m_sz σ a) (ha : m_hs σ a) (hb : m_hs σ b) (e : m_eq σ a b) : sI σ 4 b = sI σ 4 a := by
  rw [ha, hb, e.1]
  exact (hof_congr hv e.2).symm
theorem byteOf_m {N : Nat} {σ : mS} {h k : Int32} (hv : m_sv σ h) (h0 : 0 ≤ k) (h1 : k < m_sz σ h) : mm_byteOf N σ h k = some (m_by σ h k, σ) := by
  obtain ⟨a1, a2, a3, a4, a5, a6, a7, a8⟩ := hv
  simp only [m_sz] at h1
  by_cases c : h < 30000
  · have := a8 c
    simp (disch := lia) only [mm_byteOf, m_by, mm_byteOf_36, lt, gd_in, if_pos, if_neg, ↓reduceIte, gd_z0, gd_z1, gd_tt, sF_fold, sG_fold, sI_fold, sJ_fold]
  · simp (disch := lia) only [mm_byteOf, m_by, mm_byteOf_36, lt, gd_in, if_pos, if_neg, ↓reduceIte, gd_z0, gd_z1, gd_tt, sF_fold, sG_fold, sI_fold, sJ_fold]
theorem alike_lp {N : Nat} {σ : mS} {a b : Int32} (ha : m_sv σ a) (hb : m_sv σ b) (hab : a ≠ b) (hs : m_sz σ b = m_sz σ a) : ∀ (n : Nat) (i : Int32), 0 ≤ i → i ≤ m_sz σ a → ((m_sz σ a).toInt - i.toInt).toNat < n → (∃ r : Int32, mm_isAlike_44 N n a b 1 i σ = some (r, σ) ∧ (r = 1 ∨ r = 0) ∧ (r = 1 ↔ ∀ k, i ≤ k → k < m_sz σ a → m_by σ a k = m_by σ b k)) ∧ mm_isAlike_44 N n a b 0 i σ = some (0, σ) := by
  refine loop_up _ (fun n i h0 h1 ih => ?_)
  have hat := @byteOf_m N σ a i ha h0
  have hbt := @byteOf_m N σ b i hb h0
  obtain ⟨a1, a2, a3, a4, a5, a6, a7, a8⟩ := ha
  obtain ⟨b1, b2, b3, b4, b5, b6, b7, b8⟩ := hb
  have e0 : m_sz σ a = sI σ 3 a := rfl
  rw [mm_isAlike_44, mm_isAlike_44]
  by_cases c : i < m_sz σ a
  · refine ⟨?_, by simp (disch := lia) only [mm_isAlike_93, lt, gd_in, if_pos, if_neg, ↓reduceIte, gd_z0, gd_z1, gd_tt, sF_fold, sG_fold, sI_fold, sJ_fold]⟩
    simp (disch := lia) only [mm_isAlike_93, mm_isAlike_86, lt, gd_in, if_pos, if_neg, ↓reduceIte, gd_z0, gd_z1, gd_tt, sF_fold, sG_fold, sI_fold, sJ_fold, hat c, bd, hbt (by lia)]
    by_cases d : m_by σ a i = m_by σ b i
    · obtain ⟨⟨r, i1, i2, i3⟩, _⟩ := ih c
      refine ⟨r, by rw [if_pos d]; exact i1, i2, i3.trans ⟨fun q k hk hk' => ?_, fun q k hk => q k (by lia)⟩⟩
      by_cases e : k = i
      · rw [e]; exact d
      · exact q k (by lia) hk'
    · exact ⟨0, by rw [if_neg d]; exact (ih c).2, .inr rfl, fun q => absurd q (by decide), fun q => absurd (q i (by lia) c) d⟩
  · refine ⟨⟨1, by simp (disch := lia) only [mm_isAlike_93, lt, gd_in, if_pos, if_neg, ↓reduceIte, gd_z0, gd_z1, gd_tt, sF_fold, sG_fold, sI_fold, sJ_fold], .inl rfl, fun _ k hk hk' => by lia, fun _ => rfl⟩, by simp (disch := lia) only [mm_isAlike_93, lt, gd_in, if_pos, if_neg, ↓reduceIte, gd_z0, gd_z1, gd_tt, sF_fold, sG_fold, sI_fold, sJ_fold]⟩
theorem alike_m {N : Nat} (hN : BIG ≤ N) {σ : mS} {a b : Int32} (ha : m_sv σ a) (hb : m_sv σ b) (h1 : m_hs σ a) (h2 : m_hs σ b) : ∃ r : Int32, mm_isAlike N σ a b = some (r, σ) ∧ (r = 1 ∨ r = 0) ∧ (r = 1 ↔ m_eq σ a b) := by
  obtain ⟨n, hn⟩ : ∃ n, N = n + 1 := ⟨N - 1, by simp only [BIG] at hN; omega⟩
  by_cases c : a = b
  · refine ⟨1, ?_, .inl rfl, fun _ => by subst c; exact ⟨rfl, fun _ _ _ => rfl⟩, fun _ => rfl⟩
    simp only [mm_isAlike, if_pos c, mm_isAlike_35, mm_isAlike_40]
    have : mm_isAlike_44 N (n + 1) a b 1 0 σ = some (1, σ) := by
      rw [mm_isAlike_44, if_pos c]; rfl
    rw [hn] at this ⊢; exact this
  have lp0 : mm_isAlike_44 N N a b 0 0 σ = some (0, σ) := by
    have : mm_isAlike_44 N (n + 1) a b 0 0 σ = some (0, σ) := by
      rw [mm_isAlike_44, if_neg c, if_pos rfl]; rfl
    rw [hn] at this ⊢; exact this
  obtain ⟨p1, p2⟩ : (0 : Int32) ≤ m_sz σ a ∧ True := ⟨ha.2.2.2.1, trivial⟩
  by_cases e : sI σ 4 a = sI σ 4 b
  · by_cases d : m_sz σ b = m_sz σ a
    · obtain ⟨r, q1, q2, q3⟩ := (alike_lp (N := N) ha hb c d N 0 (by lia) p1 (big_d hN)).1
      refine ⟨r, ?_, q2, q3.trans ⟨fun q => ⟨d, q⟩, fun q => q.2⟩⟩
      obtain ⟨a1, a2, a3, a4, a5, a6, a7, a8⟩ := ha
      obtain ⟨b1, b2, b3, b4, b5, b6, b7, b8⟩ := hb
      simp only [m_sz] at d
      simp (disch := lia) only [mm_isAlike, mm_isAlike_35, mm_isAlike_40, lt, gd_in, if_pos, if_neg, ↓reduceIte, gd_z0, gd_z1, gd_tt, sF_fold, sG_fold, sI_fold, sJ_fold]
      exact q1
    · refine ⟨0, ?_, .inr rfl, fun q => absurd q (by decide), fun q => absurd q.1 d⟩
      obtain ⟨a1, a2, a3, a4, a5, a6, a7, a8⟩ := ha
      obtain ⟨b1, b2, b3, b4, b5, b6, b7, b8⟩ := hb
      simp only [m_sz] at d
      simp (disch := lia) only [mm_isAlike, mm_isAlike_39, mm_isAlike_40, lt, gd_in, if_pos, if_neg, ↓reduceIte, gd_z0, gd_z1, gd_tt, sF_fold, sG_fold, sI_fold, sJ_fold]
      exact lp0
  · refine ⟨0, ?_, .inr rfl, fun q => absurd q (by decide), fun q => absurd (mhs_eq p1 h1 h2 q).symm e⟩
    obtain ⟨a1, a2, a3, a4, a5, a6, a7, a8⟩ := ha
    obtain ⟨b1, b2, b3, b4, b5, b6, b7, b8⟩ := hb
    simp (disch := lia) only [mm_isAlike, mm_isAlike_39, mm_isAlike_40, lt, gd_in, if_pos, if_neg, ↓reduceIte, gd_z0, gd_z1, gd_tt, sF_fold, sG_fold, sI_fold, sJ_fold]
    exact lp0
/-- -1, 0, 1 as the difference says -/
def sgn (r : Int32) : Int32 := if r < 0 then -1 else if r = 0 then 0 else 1
theorem mcmp_lp {N : Nat} {σ : mS} {a b m : Int32} (ha : m_sv σ a) (hb : m_sv σ b) (hm1 : m ≤ m_sz σ a) (hm2 : m ≤ m_sz σ b) : ∀ (n : Nat) (i : Int32), 0 ≤ i → i ≤ m → (m.toInt - i.toInt).toNat < n → (∀ j, 0 ≤ j → j < i → m_by σ a j = m_by σ b j) → ∃ r : Int32, mm_compareStrings_34 N n a b m i σ = some (sgn r, σ) ∧ cmpR m (m_sz σ a - m_sz σ b) (m_by σ a) (m_by σ b) r := by
  refine loop_up _ (fun n i h0 h1 ih he => ?_)
  have hat := @byteOf_m N σ a i ha h0
  have hbt := @byteOf_m N σ b i hb h0
  obtain ⟨a1, a2, a3, a4, a5, a6, a7, a8⟩ := ha
  obtain ⟨b1, b2, b3, b4, b5, b6, b7, b8⟩ := hb
  rw [mm_compareStrings_34]
  by_cases c : i < m
  · simp (disch := lia) only [hat (by lia), hbt (by lia), bd, lt, gd_in, if_pos, if_neg, ↓reduceIte, gd_z0, gd_z1, gd_tt, sF_fold, sG_fold, sI_fold, sJ_fold]
    have r1 := @b_rng (if a < 30000 then sI σ 7 (sI σ 2 a + i) else sI σ 10 (sI σ 2 a + i))
    have r2 := @b_rng (if b < 30000 then sI σ 7 (sI σ 2 b + i) else sI σ 10 (sI σ 2 b + i))
    change 0 ≤ m_by σ a i ∧ m_by σ a i < 256 at r1
    change 0 ≤ m_by σ b i ∧ m_by σ b i < 256 at r2
    by_cases d : m_by σ a i = m_by σ b i
    · rw [if_pos (by lia)]
      exact ih c (fun j j0 j1 => by
        by_cases e : j = i
        · rw [e]; exact d
        · exact he j j0 (by lia))
    · rw [if_neg (by lia)]
      refine ⟨m_by σ a i - m_by σ b i, ?_, .inl ⟨i, h0, c, he, d, rfl⟩⟩
      simp only [mm_compareStrings_72, sgn]
      by_cases e : 0 ≤ m_by σ a i - m_by σ b i
      · rw [if_pos e, if_neg (by lia), if_neg (by lia)]
      · rw [if_neg e, if_pos (by lia)]
  · have e0 : m_sz σ a = sI σ 3 a := rfl
    have e1 : m_sz σ b = sI σ 3 b := rfl
    refine ⟨m_sz σ a - m_sz σ b, ?_, .inr ⟨fun j j0 j1 => he j j0 (by lia), rfl⟩⟩
    simp (disch := lia) only [lt, gd_in, if_pos, if_neg, ↓reduceIte, gd_z0, gd_z1, gd_tt, sF_fold, sG_fold, sI_fold, sJ_fold, mm_compareStrings_118, sgn, e0, e1]
    by_cases d : sI σ 3 b ≤ sI σ 3 a
    · by_cases e : sI σ 3 a ≤ sI σ 3 b
      · rw [if_pos d, if_pos e, if_neg (by lia), if_pos (by lia)]
      · rw [if_pos d, if_neg e, if_neg (by lia), if_neg (by lia)]
    · rw [if_neg d, if_pos (by lia)]
theorem compare_m {N : Nat} (hN : BIG ≤ N) {σ : mS} {a b : Int32} (ha : m_sv σ a) (hb : m_sv σ b) : ∃ r : Int32, mm_compareStrings N σ a b = some (sgn r, σ) ∧ cmpR (if m_sz σ a ≤ m_sz σ b then m_sz σ a else m_sz σ b) (m_sz σ a - m_sz σ b) (m_by σ a) (m_by σ b) r := by
  have e0 : m_sz σ a = sI σ 3 a := rfl
  have e1 : m_sz σ b = sI σ 3 b := rfl
  have p1 : (0 : Int32) ≤ m_sz σ a := ha.2.2.2.1
  have p2 : (0 : Int32) ≤ m_sz σ b := hb.2.2.2.1
  by_cases c : sI σ 3 b ≤ sI σ 3 a
  · have lp := mcmp_lp (N := N) (m := m_sz σ b) ha hb (by lia) (by lia) N 0 (by lia) (by lia) (big_d hN) (fun j h0 h1 => by lia)
    have em : (if m_sz σ a ≤ m_sz σ b then m_sz σ a else m_sz σ b) = m_sz σ b := by
      by_cases d : m_sz σ a ≤ m_sz σ b
      · rw [if_pos d]; lia
      · rw [if_neg d]
    rw [em]
    obtain ⟨a1, a2, a3, a4, a5, a6, a7, a8⟩ := ha
    obtain ⟨b1, b2, b3, b4, b5, b6, b7, b8⟩ := hb
    simp (disch := lia) only [mm_compareStrings, mm_compareStrings_30, lt, gd_in, if_pos, if_neg, ↓reduceIte, gd_z0, gd_z1, gd_tt, sF_fold, sG_fold, sI_fold, sJ_fold]
    exact lp
  · have lp := mcmp_lp (N := N) (m := m_sz σ a) ha hb (by lia) (by lia) N 0 (by lia) (by lia) (big_d hN) (fun j h0 h1 => by lia)
    rw [if_pos (by lia)]
    obtain ⟨a1, a2, a3, a4, a5, a6, a7, a8⟩ := ha
    obtain ⟨b1, b2, b3, b4, b5, b6, b7, b8⟩ := hb
    simp (disch := lia) only [mm_compareStrings, mm_compareStrings_30, lt, gd_in, if_pos, if_neg, ↓reduceIte, gd_z0, gd_z1, gd_tt, sF_fold, sG_fold, sI_fold, sJ_fold]
    exact lp
/-- the sign of a comparison is one -/
theorem cmp_one {m d d' r r' : Int32} {f g f' g' : Int32 → Int32} (h : cmpR m d f g r) (h' : cmpR m d' f' g' r') (hf : ∀ k, 0 ≤ k → k < m → f k = f' k) (hg : ∀ k, 0 ≤ k → k < m → g k = g' k) (hd : d = d') : r = r' := by
  rcases h with ⟨k, k0, k1, k2, k3, k4⟩ | ⟨k1, k2⟩
  · rcases h' with ⟨j, j0, j1, j2, j3, j4⟩ | ⟨j1, j2⟩
    · rcases (by lia : k < j ∨ j < k ∨ j = k) with e | e | e
      · exact absurd (by rw [hf k k0 k1, hg k k0 k1]; exact j2 k k0 e) k3
      · exact absurd (by rw [← hf j j0 j1, ← hg j j0 j1]; exact k2 j j0 e) j3
      · subst e; rw [k4, j4, hf j j0 j1, hg j j0 j1]
    · exact absurd (by rw [hf k k0 k1, hg k k0 k1]; exact j1 k k0 k1) k3
  · rcases h' with ⟨j, j0, j1, j2, j3, j4⟩ | ⟨j1, j2⟩
    · exact absurd (by rw [← hf j j0 j1, ← hg j j0 j1]; exact k1 j j0 j1) j3
    · rw [k2, j2, hd]
