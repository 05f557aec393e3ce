/-! LAYER 2: tokens: words -/
def kw (i : Nat) : List Int32 := xtx (x_st 704 i)
def kwAt : Nat → Nat
  | 0 => 0
  | i + 1 => kwAt i + (kw i).length + 1
theorem kw_ok : ∀ i, i < 22 → (∀ j, j < (kw i).length → (mtx 0).getD (kwAt i + j) 0 = (kw i).getD j 0 ∧ (kw i).getD j 0 ≠ 32 ∧ ((kw i).getD j 0).toInt8.toInt32 = (kw i).getD j 0 ∧ (kw i).getD j 0 &&& 255 = (kw i).getD j 0) ∧ (mtx 0).getD (kwAt i + (kw i).length) 0 = 32 ∧ kwAt i + (kw i).length < 112 ∧ (kw i).length ≤ 20 ∧ x_st 704 i < 141 := by decide +kernel
theorem kw_22 : kwAt 22 = 112 := by decide +kernel
theorem kw_k : ∀ i, i < 22 → kmp (50 + Int32.ofNat i) = Int32.ofNat (10 + i) ∧ 50 ≤ 50 + Int32.ofNat i ∧ 50 + Int32.ofNat i ≤ 71 := by decide +kernel
theorem kw_l0 : ms_l 0 = 112 := by decide +kernel
theorem kw_b {k : Nat} (h : k < 112) : ms_b 0 k &&& 255 = (mtx 0).getD k 0 := by
  have l0 : (ms_by.getD 0 []).length = 112 := kw_l0
  exact (gD_map (by rw [l0]; exact h)).symm
theorem kw_in {k : Nat} (h : k < 112) : inB (Int32.ofNat k) (ms_l 0) = true := by
  rw [kw_l0]
  exact tI_in (by rw [tI_lit (by omega)]; omega) (by rw [tI_lit (by omega)]; omega)
theorem kw_t0 : tB 0 = true := by simp only [tB, decide_eq_true_eq]; omega
theorem kw_tB {i : Nat} (hi : i < 22) : x_tB (3000 + x_st 704 i) = true := by
  have := (kw_ok i hi).2.2.2.2
  simp only [x_tB, Bool.and_eq_true, decide_eq_true_eq]
  omega
theorem kw_sub {i : Nat} : 3000 + x_st 704 i - 3000 = x_st 704 i := Nat.add_sub_cancel_left _ _
theorem kw_len {i : Nat} : xs_l (x_st 704 i) = (kw i).length := by simp only [kw, xtx, xs_l, List.length_map]
theorem kw_xb {i j : Nat} (h : j < (kw i).length) : xs_b (x_st 704 i) j &&& 255 = (kw i).getD j 0 := by
  rw [← kw_len] at h
  exact (gD_map h).symm
/-- the word is keyword i -/
def kwE (l : Nat) (b : Nat → Int32) (i : Nat) : Prop := l = (kw i).length ∧ ∀ j, j < l → b j = (kw i).getD j 0
/-- the word's bytes -/
def WB (l : Nat) (b : Nat → Int32) (σ : mS) : Prop := l ≤ 40 ∧ sF σ 712 = Int32.ofNat l ∧ ∀ j, j < l → isB (sI σ 711 (Int32.ofNat j)) ∧ sI σ 711 (Int32.ofNat j) &&& 255 = b j
theorem kw_c {l i j : Nat} {b : Nat → Int32} {σ : mS} (hi : i < 22) (W : WB l b σ) (hl : l = (kw i).length) (hj : j < l) : sI σ 711 (Int32.ofNat j) = xs_b (x_st 704 i) j &&& 255 ↔ b j = (kw i).getD j 0 := by
  obtain ⟨_, _, w⟩ := W
  obtain ⟨w1, w2⟩ := w j hj
  obtain ⟨_, _, k1, k2⟩ := (kw_ok i hi).1 j (by omega)
  rw [kw_xb (by omega), ← w2]
  constructor
  · intro e; rw [e]; exact k2
  · intro e; exact B_eq w1 k1 (by rw [e, k2])
theorem says_0 {N n v1 : Nat} {x : Int32} {σ : mS} : xx11_says_b19 N (n + 1) v1 0 x σ = some (0, σ) := by
  rw [xx11_says_b19]
  split
  · rfl
  · rw [if_pos rfl]; rfl
theorem says_lp {N i l : Nat} {b : Nat → Int32} {σ : mS} (hi : i < 22) (hl : l = (kw i).length) (W : WB l b σ) : ∀ (n j : Nat), j ≤ l → l - j < n → ∃ r, xx11_says_b19 N n (3000 + x_st 704 i) 1 (Int32.ofNat j) σ = some (r, σ) ∧ (r = 0 ∨ r = 1) ∧ (r = 1 ↔ ∀ k, j ≤ k → k < l → b k = (kw i).getD k 0) := by
  have l4 := W.1
  intro n
  induction n with
  | zero => intro j _ h; omega
  | succ n ih =>
    intro j hj hn
    rw [xx11_says_b19]
    simp only [sF_fold]
    rw [W.2.1]
    by_cases c : l ≤ j
    · rw [if_pos ((oN_le (by omega) (by omega)).mpr c)]
      exact ⟨1, rfl, .inr rfl, fun _ k k0 k1 => by omega, fun _ => rfl⟩
    · rw [if_neg (fun q => c ((oN_le (by omega) (by omega)).mp q)), if_neg (by decide), gd_oN (by omega) (by decide), kw_tB hi, gd_of rfl, kw_sub, gd_oN (by rw [kw_len]; omega) (by rw [kw_len]; omega)]
      have lj : j < l := by omega
      have cc := kw_c hi W hl lj
      rw [show σ.2.2.1 711 (Int32.ofNat j).toNatClampNeg = sI σ 711 (Int32.ofNat j) from rfl, oN_cl (by omega)]
      by_cases q : sI σ 711 (Int32.ofNat j) = xs_b (x_st 704 i) j &&& 255
      · rw [if_pos q, xx11_says_b50, lt, oN_s]
        obtain ⟨r, e1, e2, e3⟩ := ih (j + 1) (by omega) (by omega)
        refine ⟨r, e1, e2, e3.trans ⟨fun h k k0 k1 => ?_, fun h k k0 k1 => h k (by omega) k1⟩⟩
        by_cases ek : k = j
        · rw [ek]; exact cc.mp q
        · exact h k (by omega) k1
      · rw [if_neg q, xx11_says_b50, lt]
        obtain ⟨m, hm⟩ : ∃ m, n = m + 1 := ⟨n - 1, by omega⟩
        rw [hm, says_0]
        exact ⟨0, rfl, .inl rfl, fun h => absurd h (by decide), fun h => absurd (cc.mpr (h j (Nat.le_refl _) lj)) q⟩
theorem says_x {N i l : Nat} (hN : BIG ≤ N) {b : Nat → Int32} {σ : mS} (hi : i < 22) (W : WB l b σ) : ∃ r, xx11_says N σ (3000 + x_st 704 i) = some (r, σ) ∧ (r = 0 ∨ r = 1) ∧ (r = 1 ↔ kwE l b i) := by
  have l4 := W.1
  have l2 := (kw_ok i hi).2.2.2.1
  have hN' : 100 < N := Nat.lt_of_lt_of_le (by decide) hN
  rw [xx11_says, kw_tB hi, gd_of rfl, kw_sub, kw_len]
  simp only [sF_fold]
  rw [W.2.1]
  by_cases c : (kw i).length = l
  · rw [if_pos (by rw [c]), xx11_says_b16]
    obtain ⟨r, e1, e2, e3⟩ := says_lp (N := N) hi c.symm W N 0 (by omega) (by omega)
    refine ⟨r, e1, e2, e3.trans ⟨fun h => ⟨c.symm, fun j hj => h j (by omega) hj⟩, fun h k _ k1 => h.2 k k1⟩⟩
  · rw [if_neg (fun q => c ((oN_eq (by omega) (by omega)).mp q)), xx11_says_b16]
    obtain ⟨M, hM⟩ : ∃ M, N = M + 1 := ⟨N - 1, by omega⟩
    have z : ∀ K, xx11_says_b19 K N (3000 + x_st 704 i) 0 0 σ = some (0, σ) := fun K => by rw [hM]; exact says_0
    rw [z]
    exact ⟨0, rfl, .inl rfl, fun h => absurd h (by decide), fun h => absurd h.1.symm c⟩
/-- the reference: how far the word goes with keyword i -/
theorem mw_lp {N i l : Nat} {n p v1 v2 : Int32} {t : Int32 → Int32} {b : Nat → Int32} {μ : mS} (T : TXo n t) (Y : TXm n t μ) (hi : i < 22) (l4 : l ≤ 40) (h58 : sF μ 58 = p) (hv : v1 - p = Int32.ofNat l) (hb : ∀ j, j < l → 0 ≤ p + Int32.ofNat j ∧ t (p + Int32.ofNat j) = b j) {r60 : Int32 → Int32 → Int32 → mS → Option mS} : ∀ (f j : Nat), j ≤ (kw i).length → j ≤ l → (kw i).length - j < f → (∀ k, k < j → b k = (kw i).getD k 0) → ∃ m, mm_readWord_73 N r60 f v1 v2 (Int32.ofNat (kwAt i)) (Int32.ofNat j) μ = mm_readWord_129 N r60 v1 v2 (Int32.ofNat (kwAt i)) (Int32.ofNat m) μ ∧ m ≤ (kw i).length ∧ m ≤ l ∧ ((m = l ∧ m = (kw i).length) ↔ kwE l b i) := by
  obtain ⟨a1, a2, a3, a4, _⟩ := kw_ok i hi
  intro f
  induction f with
  | zero => intro j _ _ h; omega
  | succ f ih =>
    intro j hj hjl hf hpre
    rw [mm_readWord_73, kw_t0, gd_of rfl, oN_add, kw_in (by omega), gd_of rfl, oN_cl (by omega), kw_b (by omega)]
    simp only [sF_fold]
    rw [h58, hv]
    by_cases c : j < (kw i).length
    · obtain ⟨b1, b2, _⟩ := a1 j c
      rw [b1, if_neg b2]
      by_cases d : l ≤ j
      · rw [if_pos ((oN_le (by omega) (by omega)).mpr d)]
        exact ⟨j, rfl, hj, hjl, fun q => by omega, fun q => by have := q.1; omega⟩
      · have lj : j < l := by omega
        obtain ⟨p0, pb⟩ := hb j lj
        rw [if_neg (fun q => d ((oN_le (by omega) (by omega)).mp q)), gd_of rfl, gd_of rfl, sg_t T Y p0]
        simp only [bd]
        rw [pb]
        by_cases e : (kw i).getD j 0 = b j
        · rw [if_pos e, lt, oN_s]
          exact ih (j + 1) (by omega) (by omega) (by omega) (fun k hk => by
            by_cases ek : k = j
            · rw [ek]; exact e.symm
            · exact hpre k (by omega))
        · rw [if_neg e]
          exact ⟨j, rfl, hj, hjl, fun q => by omega, fun q => absurd (q.2 j lj).symm e⟩
    · have ej : j = (kw i).length := by omega
      rw [ej, a2, if_pos rfl]
      rw [ej] at hpre hjl
      refine ⟨(kw i).length, rfl, Nat.le_refl _, hjl, fun q => ⟨q.1.symm, fun k hk => hpre k (by omega)⟩, fun q => ⟨q.1.symm, rfl⟩⟩
theorem mw161 {N i : Nat} (hi : i < 22) {r60 : Int32 → Int32 → Int32 → mS → Option mS} {v1 v2 : Int32} {μ : mS} : ∀ (f j : Nat), j ≤ (kw i).length → (kw i).length - j < f → mm_readWord_161 N r60 f v1 v2 (Int32.ofNat (kwAt i + j)) μ = r60 v1 (v2 + 1) (Int32.ofNat (kwAt (i + 1))) μ := by
  obtain ⟨a1, a2, a3, a4, _⟩ := kw_ok i hi
  intro f
  induction f with
  | zero => intro j _ h; omega
  | succ f ih =>
    intro j hj hf
    rw [mm_readWord_161, kw_t0, gd_of rfl, kw_in (by omega), gd_of rfl, oN_cl (by omega), kw_b (by omega)]
    by_cases c : j < (kw i).length
    · obtain ⟨b1, b2, _⟩ := a1 j c
      rw [b1, if_neg b2, lt, oN_s, Nat.add_assoc]
      exact ih (j + 1) (by omega) (by omega)
    · have ej : j = (kw i).length := by omega
      rw [ej, a2, if_pos rfl, lt, lt, oN_s]
      rfl
/-- keyword i on the reference: found, or the next -/
theorem mw_60 {N i l : Nat} (hN : BIG ≤ N) {n p v1 v2 : Int32} {t : Int32 → Int32} {b : Nat → Int32} {μ : mS} (T : TXo n t) (Y : TXm n t μ) (hi : i < 22) (l4 : l ≤ 40) (h58 : sF μ 58 = p) (hv : v1 - p = Int32.ofNat l) (hb : ∀ j, j < l → 0 ≤ p + Int32.ofNat j ∧ t (p + Int32.ofNat j) = b j) {f : Nat} : (kwE l b i → mm_readWord_60 N (f + 1) v1 v2 (Int32.ofNat (kwAt i)) μ = some (md_pi μ 60 v2)) ∧ (¬ kwE l b i → mm_readWord_60 N (f + 1) v1 v2 (Int32.ofNat (kwAt i)) μ = mm_readWord_60 N f v1 (v2 + 1) (Int32.ofNat (kwAt (i + 1))) μ) := by
  obtain ⟨a1, a2, a3, a4, _⟩ := kw_ok i hi
  have hN' : 100 < N := Nat.lt_of_lt_of_le (by decide) hN
  obtain ⟨m, e1, e2, e3, e4⟩ := mw_lp (N := N) (v2 := v2) T Y hi l4 h58 hv hb (r60 := mm_readWord_60 N f) N 0 (by omega) (by omega) (by omega) (fun k hk => by omega)
  have st : mm_readWord_60 N (f + 1) v1 v2 (Int32.ofNat (kwAt i)) μ = mm_readWord_129 N (mm_readWord_60 N f) v1 v2 (Int32.ofNat (kwAt i)) (Int32.ofNat m) μ := by
    rw [mm_readWord_60, kw_t0, gd_of rfl, kw_l0, if_neg (fun q => by have := (oN_le (by decide) (by omega)).mp q; omega)]
    exact e1
  have sk := mw161 (N := N) hi (r60 := mm_readWord_60 N f) (v1 := v1) (v2 := v2) (μ := μ) N 0 (by omega) (by omega)
  rw [Nat.add_zero] at sk
  rw [st, mm_readWord_129]
  simp only [sF_fold]
  rw [h58, hv, oN_add]
  by_cases c : m = l
  · rw [if_pos (by rw [c]), kw_t0, gd_of rfl, kw_in (by omega), gd_of rfl, oN_cl (by omega), kw_b (by omega)]
    by_cases d : m = (kw i).length
    · rw [d, a2, if_pos rfl]
      exact ⟨fun _ => rfl, fun h => absurd (e4.mp ⟨c, d⟩) h⟩
    · obtain ⟨b1, b2, _⟩ := a1 m (by omega)
      rw [b1, if_neg b2]
      exact ⟨fun h => absurd (e4.mpr h).2 d, fun _ => sk⟩
  · rw [if_neg (fun q => c ((oN_eq (by omega) (by omega)).mp q))]
    exact ⟨fun h => absurd (e4.mpr h).1 c, fun _ => sk⟩
theorem WB_pi {l : Nat} {b : Nat → Int32} {σ : mS} {x : Int32} (W : WB l b σ) : WB l b (md_pi σ 707 x) := W
/-- all keywords -/
theorem kw_lp {N l : Nat} (hN : BIG ≤ N) {n p v1 : Int32} {t : Int32 → Int32} {b : Nat → Int32} (T : TXo n t) (l4 : l ≤ 40) (hv : v1 - p = Int32.ofNat l) (hb : ∀ j, j < l → 0 ≤ p + Int32.ofNat j ∧ t (p + Int32.ofNat j) = b j) : ∀ (f g i : Nat) (σ μ : mS), TXm n t μ → WB l b σ → sF μ 58 = p → sF μ 60 = 2 → sF σ 707 = 2 → i ≤ 22 → 22 - i + 1 < f → 22 - i < g → ∃ σ' μ' k, xx11_word_b101 N f (Int32.ofNat i) σ = some σ' ∧ mm_readWord_60 N g v1 (Int32.ofNat (10 + i)) (Int32.ofNat (kwAt i)) μ = some μ' ∧ sF σ' 707 = k ∧ sF μ' 60 = kmp k ∧ (k = 2 ∨ (50 ≤ k ∧ k ≤ 71)) ∧ m_fr (fun j => [707].contains j) σ σ' ∧ m_fr (fun j => [60].contains j) μ μ' := by
  intro f
  induction f with
  | zero => intro g i σ μ _ _ _ _ _ _ h; omega
  | succ f ih =>
    intro g i σ μ Y W h58 h60 h707 hi hf hg
    obtain ⟨g, rfl⟩ : ∃ g', g = g' + 1 := ⟨g - 1, by omega⟩
    rw [xx11_word_b101]
    simp only [sF_fold]
    rw [h707]
    by_cases c : i = 22
    · subst c
      rw [if_pos (Int32.le_refl _), mm_readWord_60, kw_t0, gd_of rfl, kw_l0, kw_22, if_pos (Int32.le_refl _)]
      exact ⟨σ, μ, 2, rfl, rfl, h707, h60, .inl rfl, mf_rfl, mf_rfl⟩
    · have i2 : i < 22 := by omega
      obtain ⟨r, e1, e2, e3⟩ := says_x hN i2 W
      obtain ⟨m1, m2⟩ := mw_60 hN (v2 := Int32.ofNat (10 + i)) T Y i2 l4 h58 hv hb (f := g)
      rw [if_neg (fun q => by have := (oN_le (by decide) (by omega)).mp q; omega), if_pos rfl, gd_oN i2 (by decide), oN_cl (by omega), e1]
      simp only [bd]
      rcases e2 with rfl | rfl
      · rw [if_pos rfl, m2 (fun h => absurd (e3.mpr h) (by decide)), xx11_word_b140, lt, lt, oN_s, oN_s]
        obtain ⟨σ', μ', k, q1, q2, q3, q4, q5, q6, q7⟩ := ih g (i + 1) (md_pi σ 707 2) μ Y (WB_pi W) h58 h60 rfl (by omega) (by omega) (by omega)
        exact ⟨σ', μ', k, q1, q2, q3, q4, q5, mf_tr (mf_pi mf_rfl rfl) q6, q7⟩
      · rw [if_neg (by decide), m1 (e3.mp rfl), xx11_word_b140, lt, lt, oN_s]
        obtain ⟨k1, k2, k3⟩ := kw_k i i2
        obtain ⟨f', rfl⟩ : ∃ f', f = f' + 1 := ⟨f - 1, by omega⟩
        refine ⟨md_pi σ 707 (50 + Int32.ofNat i), md_pi μ 60 (Int32.ofNat (10 + i)), 50 + Int32.ofNat i, ?_, rfl, rfl, k1.symm, .inr ⟨k2, k3⟩, mf_pi mf_rfl rfl, mf_pi mf_rfl rfl⟩
        rw [xx11_word_b101]
        split
        · rfl
        · rw [if_neg (fun q => ?_)]
          · rfl
          · have q' : 50 + Int32.ofNat i = 2 := q
            rw [q'] at k2
            exact absurd k2 (by decide)
def fWx (k : Nat) : Bool := [707, 711, 712, 713].contains k
def fWm (k : Nat) : Bool := [60, 62].contains k
/-- a word that was read -/
def WQ (n p : Int32) (σ μ : mS) (X Y : Option mS) : Prop := ∃ σ' μ', X = some σ' ∧ Y = some μ' ∧ (sF σ' 713 = sF μ' 62 ∧ p < sF σ' 713 ∧ sF σ' 713 ≤ n) ∧ sF μ' 60 = kmp (sF σ' 707) ∧ (sF σ' 707 = 1 ∨ ((sF σ' 707 = 2 ∨ (50 ≤ sF σ' 707 ∧ sF σ' 707 ≤ 71)) ∧ (sF σ' 712 = sF σ' 713 - p ∧ sF σ' 713 - p ≤ 40) ∧ ∀ k, 0 ≤ k → k < sF σ' 713 - p → sI σ' 711 k = sI σ 12 (p + k))) ∧ m_fr fWx σ σ' ∧ m_fr fWm μ μ'
theorem WQ_tr {n p : Int32} {σ0 σ μ : mS} {X Y : Option mS} (f : m_fr fWx σ0 σ) (h12 : ∀ k, sI σ 12 k = sI σ0 12 k) (h : WQ n p σ μ X Y) : WQ n p σ0 μ X Y := by
  obtain ⟨σ', μ', e1, e2, e3, e4, e5, e6, e7⟩ := h
  refine ⟨σ', μ', e1, e2, e3, e4, ?_, mf_tr f e6, e7⟩
  rcases e5 with e | ⟨a, b, c⟩
  · exact .inl e
  · exact .inr ⟨a, b, fun k k0 k1 => by rw [c k k0 k1, h12]⟩
theorem wd_1 {p v n l : Int32} (p0 : 0 ≤ p) (pv : p < v) (vn : v ≤ n) (n1 : n ≤ 8000) (h : v - p ≤ 40) : 0 ≤ v - p ∧ p + (v - p) = v ∧ v - p ≤ 0 + (v - p) ∧ p ≤ p + (v - p) ∧ 0 < v - p := ⟨by lia, by lia, by lia, by lia, by lia⟩
theorem wd_2 {p v n k : Int32} (p0 : 0 ≤ p) (pv : p < v) (vn : v ≤ n) (n1 : n ≤ 8000) (k0 : 0 ≤ k) (k1 : k < v - p) : 0 ≤ p + k ∧ p + k < n ∧ p + (k - 0) = p + k ∧ k < 0 + (v - p) := ⟨by lia, by lia, by lia, by lia⟩
theorem wd_cB {p v n : Int32} (p0 : 0 ≤ p) (pv : p < v) (vn : v ≤ n) (n1 : n ≤ 8000) (h : v - p ≤ 40) : x_cB p (v - p) (x_ln 12) = true ∧ x_cB 0 (v - p) (x_ln 711) = true := by
  have a := wd_1 (l := 0) p0 pv vn n1 h
  have e : v.toInt = p.toInt + (v - p).toInt := by
    have := tI_ad (a := p) (b := v - p) p0 (by lia) a.1 (by lia)
    rw [a.2.1] at this
    exact this
  have b := tI_le.mp vn
  have c := tI_le.mp n1
  have d := tI_le.mp a.1
  have d2 := tI_le.mp h
  have d3 := tI_le.mp p0
  rw [show (8000 : Int32).toInt = 8000 from rfl] at c
  rw [show (0 : Int32).toInt = 0 from rfl] at d d3
  rw [show (40 : Int32).toInt = 40 from rfl] at d2
  have l1 : x_ln 12 = 8000 := by decide +kernel
  have l2 : x_ln 711 = 2004 := by decide +kernel
  rw [l1, l2]
  simp only [x_cB, Bool.and_eq_true, decide_eq_true_eq, show (0 : Int32).toInt = 0 from rfl]
  omega
theorem wd_e {N : Nat} (hN : BIG ≤ N) {n p v : Int32} {t : Int32 → Int32} {σ μ : mS} (T : TXo n t) (X : TXx n t σ) (Y : TXm n t μ) (B : ∀ k, 0 ≤ k → k < n → isB (sI σ 12 k)) (p0 : 0 ≤ p) (pv : p < v) (vn : v ≤ n) (h1 : sF σ 708 = p) (h2 : sF σ 713 = v) (g1 : sF μ 58 = p) (g3 : sF μ 60 = 1) : WQ n p σ μ (if sF σ 713 - sF σ 708 ≤ 40 then lt (md_pi σ 712 (sF σ 713 - sF σ 708)) (fun σ9 : mS => gd (decide (σ9.1 705 = 1)) (gd (x_aB 4 12 && x_aB 4 711 && x_cB (σ9.1 708) (σ9.1 712) (x_ln 12) && x_cB 0 (σ9.1 712) (x_ln 711)) (lt (x_cp σ9 12 (σ9.1 708) 711 0 (σ9.1 712)) (fun σ10 : mS => lt (md_pi σ10 707 2) (fun σ11 : mS => xx11_word_b101 N N 0 σ11))))) else lt (md_pi σ 707 1) (fun σ12 : mS => some σ12)) (lt (md_pi μ 62 v) (fun σ12 : mS => (if (v - (σ12.1 58)) ≤ 40 then lt (md_pi σ12 60 2) (fun σ13 : mS => mm_readWord_60 N N v 10 0 σ13) else some σ12))) := by
  have n1 := T.1.2
  have hN' : 100 < N := Nat.lt_of_lt_of_le (by decide) hN
  simp only [lt]
  rw [h1, h2, show (md_pi μ 62 v).1 58 = p from g1]
  by_cases c : v - p ≤ 40
  · rw [if_pos c, if_pos c]
    obtain ⟨c1, c2, c3, c4, c5⟩ := wd_1 (l := 0) p0 pv vn n1 c
    obtain ⟨b1, b2⟩ := wd_cB p0 pv vn n1 c
    rw [show (md_pi σ 712 (v - p)).1 705 = 1 from X.2.1, show (md_pi σ 712 (v - p)).1 708 = p from h1, show (md_pi σ 712 (v - p)).1 712 = v - p from rfl, gd_of (by decide), b1, b2, gd_of (by decide +kernel)]
    have hl : v - p = Int32.ofNat (v - p).toNatClampNeg := (oN_cl' c1).symm
    have l4 : (v - p).toNatClampNeg ≤ 40 := by
      have := tI_le.mp c
      rw [show (40 : Int32).toInt = 40 from rfl] at this
      rw [tI_cl]; omega
    have cp : ∀ k, 0 ≤ k → k < v - p → sI (x_cp (md_pi σ 712 (v - p)) 12 p 711 0 (v - p)) 711 k = sI σ 12 (p + k) := fun k k0 k1 => by
      have w := wd_2 p0 pv vn n1 k0 k1
      rw [sI_cp p0 (by decide) c1 k0 c4 (by lia), if_pos ⟨rfl, k0, w.2.2.2⟩, w.2.2.1]; rfl
    generalize hL : (v - p).toNatClampNeg = l at *
    have hj : ∀ j, j < l → 0 ≤ Int32.ofNat j ∧ Int32.ofNat j < v - p := fun j jl => by
      rw [hl]
      exact ⟨(oN_le (a := 0) (by decide) (by omega)).mpr (by omega), (oN_lt (by omega) (by omega)).mpr jl⟩
    have fr1 : m_fr fWx σ (md_pi (x_cp (md_pi σ 712 (v - p)) 12 p 711 0 (v - p)) 707 2) := mf_pi (mf_cp (mf_pi mf_rfl rfl) rfl) rfl
    have fr2 : m_fr fWm μ (md_pi (md_pi μ 62 v) 60 2) := mf_pi (mf_pi mf_rfl rfl) rfl
    obtain ⟨σ', μ', k, q1, q2, q3, q4, q5, q6, q7⟩ := kw_lp hN (l := l) (b := fun j => t (p + Int32.ofNat j)) T l4 hl (fun j jl => ⟨(wd_2 p0 pv vn n1 (hj j jl).1 (hj j jl).2).1, rfl⟩) N N 0 (md_pi (x_cp (md_pi σ 712 (v - p)) 12 p 711 0 (v - p)) 707 2) (md_pi (md_pi μ 62 v) 60 2) (TXm_fr Y fr2 rfl rfl) ⟨l4, hl, fun j jl => by
      obtain ⟨j0, j1⟩ := hj j jl
      have w := wd_2 p0 pv vn n1 j0 j1
      rw [sI_pi, cp _ j0 j1]
      exact ⟨B _ w.1 w.2.1, X.2.2 _ w.1 w.2.1⟩⟩ g1 rfl rfl (by omega) (by omega) (by omega)
    refine ⟨σ', μ', q1, q2, ?_, by rw [q3]; exact q4, .inr ⟨by rw [q3]; exact q5, ?_, fun k k0 k1 => ?_⟩, mf_tr fr1 (mf_mono q6 (fun j h => ?_)), mf_tr fr2 (mf_mono q7 (fun j h => ?_))⟩
    · rw [mf_F q6 rfl, mf_F q7 rfl]
      exact ⟨h2, by show p < sF σ 713; rw [h2]; exact pv, by show sF σ 713 ≤ n; rw [h2]; exact vn⟩
    · rw [mf_F q6 rfl, mf_F q6 rfl]
      show v - p = sF σ 713 - p ∧ sF σ 713 - p ≤ 40
      rw [h2]; exact ⟨rfl, c⟩
    · rw [mf_F q6 rfl] at k1
      have k1' : k < v - p := by
        have : sF (md_pi (x_cp (md_pi σ 712 (v - p)) 12 p 711 0 (v - p)) 707 2) 713 = v := h2
        rw [this] at k1; exact k1
      rw [mf_I q6 rfl, sI_pi, cp k k0 k1']
    · simp only [fWx, List.contains_cons, List.contains_nil, Bool.or_eq_false_iff, beq_eq_false_iff_ne] at h ⊢
      (repeat' (first | exact trivial | omega | apply And.intro))
    · simp only [fWm, List.contains_cons, List.contains_nil, Bool.or_eq_false_iff, beq_eq_false_iff_ne] at h ⊢
      (repeat' (first | exact trivial | omega | apply And.intro))
  · rw [if_neg c, if_neg c]
    refine ⟨_, _, rfl, rfl, ⟨h2, ?_⟩, g3, .inl rfl, mf_pi mf_rfl rfl, mf_pi mf_rfl rfl⟩
    show p < sF σ 713 ∧ sF σ 713 ≤ n
    rw [h2]; exact ⟨pv, vn⟩
/-- a word -/
theorem word_lp {N : Nat} (hN : BIG ≤ N) {n p : Int32} {t : Int32 → Int32} {μ : mS} (T : TXo n t) (Y : TXm n t μ) (p0 : 0 ≤ p) (g1 : sF μ 58 = p) (g3 : sF μ 60 = 1) : ∀ (j j2 : Nat) (v : Int32) (σ : mS), TXx n t σ → (∀ k, 0 ≤ k → k < n → isB (sI σ 12 k)) → sF σ 708 = p → sF σ 713 = v → p < v → v ≤ n → (n.toInt - v.toInt).toNat < j → (n.toInt - v.toInt).toNat < j2 → WQ n p σ μ (xx11_word_b0 N j σ) (mm_readWord_5 N j2 v μ) := by
  intro j
  induction j with
  | zero => intro j2 v σ _ _ _ _ _ _ h; omega
  | succ j ih =>
    intro j2 v σ X B h1 h2 pv vn hj hj2
    obtain ⟨j2, rfl⟩ : ∃ z, j2 = z + 1 := ⟨j2 - 1, by omega⟩
    have v0 := Int32.le_trans p0 (Int32.le_of_lt pv)
    have go : v < n → WQ n p σ μ (lt (md_pi σ 713 (sF σ 713 + 1)) (fun σ4 : mS => xx11_word_b0 N j σ4)) (lt (v + 1) (fun x7 : Int32 => mm_readWord_5 N j2 x7 μ)) := fun l => by
      have e := qd_b v0 T.1.2 l
      rw [h2]
      exact WQ_tr (mf_pi mf_rfl rfl) (fun _ => rfl) (ih j2 (v + 1) (md_pi σ 713 (v + 1)) (TXx_fr X (mf_pi (P := fWx) mf_rfl rfl) rfl rfl rfl) B h1 rfl (Int32.lt_trans pv e.2.2.1) e.2.1 (by clear ih; omega) (by clear ih; omega))
    rw [xx11_word_b0, mm_readWord_5, sg_t T Y v0]
    simp only [bd, sF_fold, lt_m, dgt_m]
    rw [h2, at_t T X v0]
    simp only [lt_t]
    by_cases c : isLt (t v) = true
    · rw [if_neg (fun q => b01_0.mp q c), if_neg (fun q => b01_0.mp q c), xx11_word_b28, mm_readWord_27]
      simp only [sF_fold]
      exact go (TX_in T vn (fun e => by rw [e] at c; exact absurd c (by decide)))
    · rw [if_pos (b01_0.mpr c), if_pos (b01_0.mpr c), sg_t T Y v0]
      simp only [sF_fold]
      rw [h2, at_t T X v0]
      simp only [dg_t]
      by_cases d : isDg (t v) = true
      · rw [if_neg (fun q => b01_0.mp q d), if_neg (fun q => b01_0.mp q d), xx11_word_b28, mm_readWord_27]
        simp only [sF_fold]
        exact go (es_dg T vn d)
      · rw [if_pos (b01_0.mpr d), if_pos (b01_0.mpr d)]
        have w := wd_e hN T X Y B p0 pv vn h1 h2 g1 g3
        rw [h2] at w
        simp only [sF_fold] at w ⊢
        rw [h2]
        exact w
theorem word_2 {N : Nat} (hN : BIG ≤ N) {n p : Int32} {t : Int32 → Int32} {σ μ : mS} (T : TXo n t) (X : TXx n t σ) (Y : TXm n t μ) (B : ∀ k, 0 ≤ k → k < n → isB (sI σ 12 k)) (p0 : 0 ≤ p) (pn : p < n) (ha : isLt (t p) = true) (h1 : sF σ 708 = p) (h2 : sF σ 713 = p + 1) (g1 : sF μ 58 = p) (g3 : sF μ 60 = 1) : WQ n p σ μ (xx11_word N σ) (mm_readWord N μ) := by
  obtain ⟨M, hM⟩ : ∃ M, N = M + 1 := ⟨N - 1, by have : 1 ≤ N := Nat.le_trans (by decide) hN; omega⟩
  have e := qd_b p0 T.1.2 pn
  rw [xx11_word, mm_readWord, lt, show μ.1 58 = p from g1]
  have k : ∀ K j, N = j + 1 → mm_readWord_5 K N p μ = mm_readWord_5 K j (p + 1) μ := fun K j ej => by
    rw [ej, mm_readWord_5, sg_t T Y p0]
    simp only [bd, lt_m]
    rw [if_neg (fun q => b01_0.mp q ha), mm_readWord_27, lt]
  rw [k N M hM]
  have b := big_d (N := N) (a := n) (b := p) hN
  exact word_lp hN T Y p0 g1 g3 N M (p + 1) σ X B h1 h2 e.2.2.1 e.2.1 (by omega) (by omega)
