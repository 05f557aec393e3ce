/-! LAYER 2: the reference's tables: holes -/
def mlv (σ : mS) (l : List Int32) (k : Int32) : Prop := ∃ e, e ∈ l ∧ sI σ 32 e = 2 ∧ sJ σ 33 e = Int32.toInt64 k ∧ sI σ 34 e ≠ 0
/-- rising holes h of which there are c; what is known goes up to K; the key ke is told by others -/
def HMe (σ : mS) (l : List Int32) (h : Int32 → Int32) (c K ke : Int32) : Prop := 0 ≤ K ∧ K ≤ 20000 ∧ 0 ≤ c ∧ c ≤ 16 ∧ (∀ i, 0 ≤ i → i < c → 1 ≤ h i ∧ h i ≤ K) ∧ (∀ i j, 0 ≤ i → i < j → j < c → h i < h j) ∧ (∀ k, 1 ≤ k → k ≤ K → k ≠ ke → mlv σ l k ∨ ∃ i, 0 ≤ i ∧ i < c ∧ h i = k) ∧ (∀ i, 0 ≤ i → i < c → h i ≠ ke → ¬ mlv σ l (h i))
def mh (σ : mS) (t i : Int32) : Int32 := sI σ 26 (16 * t + i)
def HM (σ : mS) (l : List Int32) (t : Int32) : Prop := HMe σ l (mh σ t) (sI σ 27 t) (sI σ 25 t) 0
theorem hmc {σ : mS} {l : List Int32} {h h' : Int32 → Int32} {c K ke : Int32} (H : HMe σ l h c K ke) (e : ∀ i, 0 ≤ i → i < c → h' i = h i) : HMe σ l h' c K ke := by
  obtain ⟨a1, a2, a3, a4, a5, a6, a7, a8⟩ := H
  refine ⟨a1, a2, a3, a4, fun i i0 i1 => by rw [e i i0 i1]; exact a5 i i0 i1, fun i j i0 ij j1 => by rw [e i i0 (by lia), e j (by lia) j1]; exact a6 i j i0 ij j1, fun k k0 k1 k2 => ?_, fun i i0 i1 => by rw [e i i0 i1]; exact a8 i i0 i1⟩
  rcases a7 k k0 k1 k2 with q | ⟨i, i0, i1, i2⟩
  · exact .inl q
  · exact .inr ⟨i, i0, i1, by rw [e i i0 i1]; exact i2⟩
/-- a hole goes -/
theorem hm_del {σ : mS} {l : List Int32} {h : Int32 → Int32} {c K key p : Int32} (H : HMe σ l h c K key) (lv : mlv σ l key) (p0 : 0 ≤ p) (p1 : p < c) (hp : h p = key) : HMe σ l (fun i => if i < p then h i else h (i + 1)) (c - 1) K 0 := by
  obtain ⟨a1, a2, a3, a4, a5, a6, a7, a8⟩ := H
  refine ⟨a1, a2, by lia, by lia, fun i i0 i1 => ?_, fun i j i0 ij j1 => ?_, fun k k0 k1 _ => ?_, fun i i0 i1 _ => ?_⟩
  · dsimp only
    by_cases d : i < p
    · rw [if_pos d]; exact a5 i i0 (by lia)
    · rw [if_neg d]; exact a5 (i + 1) (by lia) (by lia)
  · dsimp only
    by_cases d : j < p
    · rw [if_pos d, if_pos (by lia)]; exact a6 i j i0 ij (by lia)
    · rw [if_neg d]
      by_cases f : i < p
      · rw [if_pos f]; exact a6 i (j + 1) i0 (by lia) (by lia)
      · rw [if_neg f]; exact a6 (i + 1) (j + 1) (by lia) (by lia) (by lia)
  · by_cases d : k = key
    · subst d; exact .inl lv
    · rcases a7 k k0 k1 d with q | ⟨i, i0, i1, i2⟩
      · exact .inl q
      · right
        have ip : i ≠ p := fun q => d (by rw [← i2, q]; exact hp)
        by_cases f : i < p
        · exact ⟨i, i0, by lia, by dsimp only; rw [if_pos f]; exact i2⟩
        · refine ⟨i - 1, by lia, by lia, ?_⟩
          dsimp only
          rw [if_neg (by lia), show i - 1 + 1 = i by lia]; exact i2
  · dsimp only
    by_cases d : i < p
    · rw [if_pos d]
      have := a6 i p i0 d p1
      exact a8 i i0 (by lia) (by lia)
    · rw [if_neg d]
      have := a6 p (i + 1) p0 (by lia) (by lia)
      exact a8 (i + 1) (by lia) (by lia) (by lia)
/-- a hole comes -/
theorem hm_ins {σ : mS} {l : List Int32} {h : Int32 → Int32} {c K key p : Int32} (H : HMe σ l h c K key) (lv : ¬ mlv σ l key) (hc : c < 16) (k1 : 1 ≤ key) (kK : key ≤ K) (p0 : 0 ≤ p) (p1 : p ≤ c) (lo : ∀ i, 0 ≤ i → i < p → h i < key) (hi : ∀ i, p ≤ i → i < c → key < h i) : HMe σ l (fun i => if i < p then h i else if i = p then key else h (i - 1)) (c + 1) K 0 := by
  obtain ⟨a1, a2, a3, a4, a5, a6, a7, a8⟩ := H
  refine ⟨a1, a2, by lia, by lia, fun i i0 i1 => ?_, fun i j i0 ij j1 => ?_, fun k k0 k1 _ => ?_, fun i i0 i1 _ => ?_⟩
  · dsimp only
    by_cases d : i < p
    · rw [if_pos d]; exact a5 i i0 (by lia)
    · rw [if_neg d]
      by_cases f : i = p
      · rw [if_pos f]; exact ⟨k1, kK⟩
      · rw [if_neg f]; exact a5 (i - 1) (by lia) (by lia)
  · dsimp only
    by_cases d : j < p
    · rw [if_pos d, if_pos (by lia)]; exact a6 i j i0 ij (by lia)
    · rw [if_neg d]
      by_cases f : j = p
      · rw [if_pos f, if_pos (by lia)]; exact lo i i0 (by lia)
      · rw [if_neg f]
        by_cases g : i < p
        · rw [if_pos g]
          by_cases w : j - 1 = i
          · exfalso; lia
          · exact a6 i (j - 1) i0 (by lia) (by lia)
        · rw [if_neg g]
          by_cases w : i = p
          · rw [if_pos w]; exact hi (j - 1) (by lia) (by lia)
          · rw [if_neg w]; exact a6 (i - 1) (j - 1) (by lia) (by lia) (by lia)
  · by_cases d : k = key
    · subst d
      exact .inr ⟨p, p0, by lia, by dsimp only; rw [if_neg (by lia), if_pos rfl]⟩
    · rcases a7 k k0 k1 d with q | ⟨i, i0, i1, i2⟩
      · exact .inl q
      · right
        by_cases f : i < p
        · exact ⟨i, i0, by lia, by dsimp only; rw [if_pos f]; exact i2⟩
        · refine ⟨i + 1, by lia, by lia, ?_⟩
          dsimp only
          rw [if_neg (by lia), if_neg (by lia), show i + 1 - 1 = i by lia]; exact i2
  · dsimp only
    by_cases d : i < p
    · rw [if_pos d]
      have := lo i i0 d
      exact a8 i i0 (by lia) (by lia)
    · rw [if_neg d]
      by_cases f : i = p
      · rw [if_pos f]; exact lv
      · rw [if_neg f]
        have := hi (i - 1) (by lia) (by lia)
        exact a8 (i - 1) (by lia) (by lia) (by lia)
/-- the last hole and what lies behind it is known no more -/
theorem hm_cut {σ : mS} {l : List Int32} {h : Int32 → Int32} {c K key : Int32} (H : HMe σ l h c K key) (hc : 0 < c) : HMe σ l h (c - 1) (h (c - 1) - 1) key := by
  obtain ⟨a1, a2, a3, a4, a5, a6, a7, a8⟩ := H
  have w := a5 (c - 1) (by lia) (by lia)
  refine ⟨by lia, by lia, by lia, by lia, fun i i0 i1 => ?_, fun i j i0 ij j1 => a6 i j i0 ij (by lia), fun k k0 k1 k2 => ?_, fun i i0 i1 => a8 i i0 (by lia)⟩
  · have := a6 i (c - 1) i0 (by lia) (by lia)
    exact ⟨(a5 i i0 (by lia)).1, by lia⟩
  · rcases a7 k k0 (by lia) k2 with q | ⟨i, i0, i1, i2⟩
    · exact .inl q
    · refine .inr ⟨i, i0, ?_, i2⟩
      by_cases d : i = c - 1
      · subst d; lia
      · lia
theorem hol_p {N : Nat} {σ : mS} {t key op : Int32} (t0 : 0 ≤ t) (t1 : t < 3000) (c0 : 0 ≤ sI σ 27 t) (c1 : sI σ 27 t ≤ 16) : ∀ (n : Nat) (i : Int32), 0 ≤ i → i ≤ sI σ 27 t → ((sI σ 27 t).toInt - i.toInt).toNat < n → (∀ j, 0 ≤ j → j < i → mh σ t j < key) → ∃ p, 0 ≤ p ∧ p ≤ sI σ 27 t ∧ mm_hole_9 N n t key op (16 * t) i σ = mm_hole_40 N t key op (16 * t) p σ ∧ (∀ j, 0 ≤ j → j < p → mh σ t j < key) ∧ (p < sI σ 27 t → key ≤ mh σ t p) := by
  refine loop_up _ (fun n i i0 i1 ih he => ?_)
  by_cases c : i < sI σ 27 t
  · by_cases d : key ≤ mh σ t i
    · refine ⟨i, i0, i1, ?_, he, fun _ => d⟩
      have d' : key ≤ sI σ 26 (16 * t + i) := d
      clear he ih
      rw [mm_hole_9]
      simp (disch := lia) only [lt, gd_in, if_pos, if_neg, ↓reduceIte, gd_z0, gd_z1, gd_tt, sF_fold, sG_fold, sI_fold, sJ_fold]
    · obtain ⟨p, p0, p1, p2, p3, p4⟩ := ih c (fun j j0 j1 => by
        by_cases w : j = i
        · subst w; lia
        · exact he j j0 (by lia))
      refine ⟨p, p0, p1, ?_, p3, p4⟩
      have d' : ¬ key ≤ sI σ 26 (16 * t + i) := d
      clear he ih p3 p4
      rw [mm_hole_9]
      simp (disch := lia) only [lt, gd_in, if_pos, if_neg, ↓reduceIte, gd_z0, gd_z1, gd_tt, sF_fold, sG_fold, sI_fold, sJ_fold]
      exact p2
  · refine ⟨i, i0, i1, ?_, he, fun q => absurd q c⟩
    clear he ih
    rw [mm_hole_9]
    simp (disch := lia) only [lt, gd_in, if_pos, if_neg, ↓reduceIte, gd_z0, gd_z1, gd_tt, sF_fold, sG_fold, sI_fold, sJ_fold]
theorem hol_l {N : Nat} {σ : mS} {t p m : Int32} (t0 : 0 ≤ t) (t1 : t < 3000) (hm : sI σ 27 t = m) (m1 : m < 16) (p0 : 0 ≤ p) : ∀ (n : Nat) (i : Int32), p ≤ i → i ≤ m → (m.toInt - i.toInt).toNat < n → ∀ g : Nat → Int32, (∀ j, 0 ≤ j → j < i → g (16 * t + j).toNatClampNeg = if j < p then mh σ t j else mh σ t (j + 1)) → (∀ x, 0 ≤ x → x < 16 * t ∨ 16 * t + i ≤ x → g x.toNatClampNeg = sI σ 26 x) → ∃ g', mm_hole_58 N n t (16 * t) i (md_row σ 26 g) = some (md_row σ 26 g') ∧ (∀ j, 0 ≤ j → j < m → g' (16 * t + j).toNatClampNeg = if j < p then mh σ t j else mh σ t (j + 1)) ∧ (∀ x, 0 ≤ x → x < 16 * t ∨ 16 * t + m ≤ x → g' x.toNatClampNeg = sI σ 26 x) := by
  refine loop_up _ (fun n i i0 i1 ih g g1 g2 => ?_)
  rw [mm_hole_58]
  have e27 : sI (md_row σ 26 g) 27 t = m := by rw [sI_row1 (by decide), hm]
  by_cases c : i < m
  · have e26 : sI (md_row σ 26 g) 26 (16 * t + i + 1) = mh σ t (i + 1) := by
      rw [sI_row2, g2 _ (by lia) (.inr (by lia))]
      simp only [mh]
      congr 1
      lia
    have pre : gd (inB t 3000) (if (md_row σ 26 g).2.2.1 27 t.toNatClampNeg ≤ i then some (md_row σ 26 g) else gd (inB (16 * t + i + 1) 48000) (gd (inB (16 * t + i) 48000) (lt (md_ai (md_row σ 26 g) 26 (16 * t + i).toNatClampNeg ((md_row σ 26 g).2.2.1 26 (16 * t + i + 1).toNatClampNeg)) (fun σ6 => lt (i + 1) (fun x7 => mm_hole_58 N n t (16 * t) x7 σ6))))) = mm_hole_58 N n t (16 * t) (i + 1) (md_row σ 26 (upd g (16 * t + i).toNatClampNeg (mh σ t (i + 1)))) := by
      clear ih g1 g2
      simp (disch := lia) only [lt, gd_in, if_pos, if_neg, ↓reduceIte, gd_z0, gd_z1, gd_tt, sF_fold, sG_fold, sI_fold, sJ_fold, e27, e26, row_ai]
    rw [pre]
    refine ih c _ (fun j j0 j1 => ?_) (fun x x0 x1 => ?_)
    · rw [upd_cl (by lia) (by lia)]
      by_cases e : j = i
      · subst e; rw [if_pos rfl, if_neg (by lia)]
      · rw [if_neg (by lia)]; exact g1 j j0 (by lia)
    · rw [upd_cl (by lia) (by lia), if_neg (by lia)]; exact g2 x x0 (by lia)
  · have e : i = m := by lia
    subst e
    refine ⟨g, ?_, g1, g2⟩
    clear ih g1 g2
    simp (disch := lia) only [lt, gd_in, if_pos, if_neg, ↓reduceIte, gd_z0, gd_z1, gd_tt, sF_fold, sG_fold, sI_fold, sJ_fold, e27]
theorem hol_r {N : Nat} {σ : mS} {t p m key : Int32} (t0 : 0 ≤ t) (t1 : t < 3000) (hm : sI σ 27 t = m) (m1 : m < 16) (p0 : 0 ≤ p) : ∀ (n : Nat) (i : Int32), p ≤ i → i ≤ m → (i.toInt - p.toInt).toNat < n → ∀ g : Nat → Int32, (∀ j, i < j → j ≤ m → g (16 * t + j).toNatClampNeg = mh σ t (j - 1)) → (∀ x, 0 ≤ x → x ≤ 16 * t + i ∨ 16 * t + m < x → g x.toNatClampNeg = sI σ 26 x) → ∃ g', mm_hole_166 N n t key (16 * t) p i (md_row σ 26 g) = some (md_ai (md_row σ 26 g') 27 t.toNatClampNeg (m + 1)) ∧ (∀ j, 0 ≤ j → j ≤ m → g' (16 * t + j).toNatClampNeg = if j < p then mh σ t j else if j = p then key else mh σ t (j - 1)) ∧ (∀ x, 0 ≤ x → x < 16 * t ∨ 16 * t + m < x → g' x.toNatClampNeg = sI σ 26 x) := by
  refine loop_dn _ (fun n i i0 i1 ih g g1 g2 => ?_)
  rw [mm_hole_166]
  by_cases c : p < i
  · have e26 : sI (md_row σ 26 g) 26 (16 * t + i - 1) = mh σ t (i - 1) := by
      rw [sI_row2, g2 _ (by lia) (.inl (by lia))]
      simp only [mh]
      congr 1
      lia
    have e1 : i + (-1) = i - 1 := by lia
    simp (disch := lia) only [lt, gd_in, if_pos, if_neg, ↓reduceIte, gd_z0, gd_z1, gd_tt, sF_fold, sG_fold, sI_fold, sJ_fold, e26, row_ai, e1]
    refine ih c _ (fun j j0 j1 => ?_) (fun x x0 x1 => ?_)
    · rw [upd_cl (by lia) (by lia)]
      by_cases e : j = i
      · subst e; rw [if_pos rfl]
      · rw [if_neg (by lia)]; exact g1 j (by lia) j1
    · rw [upd_cl (by lia) (by lia), if_neg (by lia)]; exact g2 x x0 (by lia)
  · have e : i = p := by lia
    subst e
    have e27 : sI (md_row σ 26 (upd g (16 * t + i).toNatClampNeg key)) 27 t = m := by rw [sI_row1 (by decide), hm]
    refine ⟨upd g (16 * t + i).toNatClampNeg key, ?_, fun j j0 j1 => ?_, fun x x0 x1 => ?_⟩
    · clear ih g1 g2
      simp (disch := lia) only [lt, gd_in, if_pos, if_neg, ↓reduceIte, gd_z0, gd_z1, gd_tt, sF_fold, sG_fold, sI_fold, sJ_fold, e27, row_ai]
    · rw [upd_cl (by lia) (by lia)]
      by_cases d : j = i
      · subst d; rw [if_pos rfl, if_neg (by lia), if_pos rfl]
      · rw [if_neg (by lia)]
        by_cases f : j < i
        · rw [if_pos f, g2 _ (by lia) (.inl (by lia))]; rfl
        · rw [if_neg f, if_neg d]; exact g1 j (by lia) j1
    · rw [upd_cl (by lia) (by lia), if_neg (by lia)]; exact g2 x x0 (by lia)
