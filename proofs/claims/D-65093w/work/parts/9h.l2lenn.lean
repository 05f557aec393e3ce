/-! LAYER 2: the reference's tables: length -/
def isLenM (σ : mS) (l : List Int32) (n : Int32) : Prop := 0 ≤ n ∧ n ≤ 20000 ∧ (∀ k, 1 ≤ k → k ≤ n → mlv σ l k) ∧ ¬ mlv σ l (n + 1)
theorem bd20 {σ : mS} {ts : List Int32} {es ps : Int32 → List Int32} {t b : Int32} (ht : t ∈ ts) (F : FM σ ts es ps) (h1 : ∀ k, 1 ≤ k → k ≤ b → mlv σ (es t) k) (lv : mlv σ (es t) (b + 1)) (b0 : 0 ≤ b) (hb : b ≤ 20000) : b < 20000 := by
  apply Classical.byContradiction
  intro hc
  have eb : b = 20000 := by lia
  subst eb
  have rng : ∀ i, i < 20001 → (1 : Int32) ≤ Int32.ofNat (i + 1) ∧ Int32.ofNat (i + 1) ≤ 20001 := by
    intro i hi
    rw [tI_le, tI_le, i_int (by omega)]
    exact ⟨by show (1 : Int) ≤ _; omega, by show ((i + 1 : Nat) : Int) ≤ 20001; omega⟩
  have tot : ∀ i, i < 20001 → ∃ e, e ∈ es t ∧ sJ σ 33 e = Int32.toInt64 (Int32.ofNat (i + 1)) := by
    intro i hi
    obtain ⟨r1, r2⟩ := rng i hi
    by_cases c : Int32.ofNat (i + 1) = 20001
    · obtain ⟨e, e1, e2, e3, e4⟩ := lv
      exact ⟨e, e1, by rw [e3, c]; rfl⟩
    · obtain ⟨e, e1, e2, e3, e4⟩ := h1 _ r1 (by lia)
      exact ⟨e, e1, e3⟩
  have : 20001 ≤ 20000 := by
    refine pigeon 20000 20001 (fun i => if h : i < 20001 then (tot i h).choose.toNatClampNeg else 0) (fun i hi => ?_) (fun i j hij hj e => ?_)
    · simp only [dif_pos hi]
      have w := F.1 t ht _ (tot i hi).choose_spec.1
      have q := w.2.1
      rw [tI_lt] at q
      have := cl_toInt w.1
      have z : (20000 : Int32).toInt = 20000 := rfl
      omega
    · have hi : i < 20001 := by omega
      simp only [dif_pos hi, dif_pos hj] at e
      have si := (tot i hi).choose_spec
      have sj := (tot j hj).choose_spec
      have := cl_inj (F.1 t ht _ si.1).1 (F.1 t ht _ sj.1).1 e
      have k := si.2
      rw [this, sj.2] at k
      have key := ll_inj k
      rw [tI_eq, i_int (by omega), i_int (by omega)] at key
      omega
  omega
def hG (k : Nat) : Bool := [42, 43].contains k
theorem fr_gt {σ : mS} {a : Int32} {b : Int64} : m_fr hG σ (gt σ a b) := mf_pl (mf_pi mf_rfl rfl) rfl
theorem gt_gt {σ : mS} {a c : Int32} {b d : Int64} : gt (gt σ a b) c d = gt σ c d := by
  obtain ⟨f, g, i, j⟩ := σ
  simp only [gt, md_pl, md_pi]
  refine Prod.ext ?_ (Prod.ext ?_ rfl)
  · funext k
    simp only [upd_at]
    split <;> rfl
  · funext k
    simp only [updL_at]
    split <;> rfl
theorem mf_M {P : Nat → Bool} {σ τ : mS} (fr : m_fr P σ τ) (h2 : P 2 = false ∧ P 3 = false ∧ P 4 = false ∧ P 7 = false ∧ P 10 = false) : (∀ h, mgs τ h ↔ mgs σ h) ∧ (∀ a b, m_eq τ a b ↔ m_eq σ a b) := by
  obtain ⟨p1, p2, p3, p4, p5⟩ := h2
  have i1 : ∀ m, sI τ 2 m = sI σ 2 m := fun m => mf_I fr p1
  have i2 : ∀ m, sI τ 3 m = sI σ 3 m := fun m => mf_I fr p2
  have i3 : ∀ m, sI τ 4 m = sI σ 4 m := fun m => mf_I fr p3
  have i4 : ∀ m, sI τ 7 m = sI σ 7 m := fun m => mf_I fr p4
  have i5 : ∀ m, sI τ 10 m = sI σ 10 m := fun m => mf_I fr p5
  have by' : ∀ h, m_by τ h = m_by σ h := fun h => by funext k; simp only [m_by, i1, i4, i5]
  exact ⟨fun h => by simp only [mgs, m_sv, m_hs, m_sz, i1, i2, i3, by'], fun a b => by simp only [m_eq, m_sz, i2, by']⟩
theorem mf_FM {P : Nat → Bool} {σ τ : mS} {ts : List Int32} {es ps : Int32 → List Int32} (fr : m_fr P σ τ) (h2 : P 2 = false ∧ P 3 = false ∧ P 4 = false ∧ P 7 = false ∧ P 10 = false) (h3 : P 31 = false ∧ P 32 = false ∧ P 33 = false ∧ P 37 = false ∧ P 38 = false) (H : FM σ ts es ps) : FM τ ts es ps := by
  obtain ⟨a1, a2⟩ := mf_M fr h2
  obtain ⟨q1, q2, q3, q4, q5⟩ := h3
  have i1 : ∀ m, sI τ 31 m = sI σ 31 m := fun m => mf_I fr q1
  have i2 : ∀ m, sI τ 32 m = sI σ 32 m := fun m => mf_I fr q2
  have i3 : ∀ m, sJ τ 33 m = sJ σ 33 m := fun m => mf_J fr q3
  have i4 : ∀ m, sI τ 37 m = sI σ 37 m := fun m => mf_I fr q4
  have i5 : ∀ m, sI τ 38 m = sI σ 38 m := fun m => mf_I fr q5
  have i6 : ∀ m, sI τ 4 m = sI σ 4 m := fun m => mf_I fr h2.2.2.1
  simp only [FM, mk_ok, mk_eq, chf, a1, a2, i1, i2, i3, i4, i5, i6] at H ⊢
  exact H
theorem m2ok {σ : mS} {k : Int64} : mk_ok σ 2 k := ⟨by decide, by decide, fun q => absurd q (by decide)⟩
theorem mkeq2 {σ : mS} {t : Int32} {k k' : Int64} : mk_eq σ t k 2 k' ↔ t = 2 ∧ k = k' := by
  constructor
  · rintro ⟨rfl, h⟩
    rw [if_neg (by decide)] at h
    exact ⟨rfl, h⟩
  · rintro ⟨rfl, rfl⟩
    exact mkeq_rfl
theorem get2_m {N : Nat} (hN : BIG ≤ N) {σ : mS} {ts : List Int32} {es ps : Int32 → List Int32} {t k : Int32} (H : FM σ ts es ps) (ht : t ∈ ts) : ∃ a b, mm_get N σ t 2 (Int32.toInt64 k) = some (gt σ a b) ∧ (a ≠ 0 ↔ mlv σ (es t) k) := by
  rcases get_m hN H ht (m2ok (σ := σ) (k := Int32.toInt64 k)) with ⟨e, e1, e2, e3⟩ | ⟨e1, e2⟩
  · rw [mkeq2] at e2
    refine ⟨_, _, e3, fun q => ⟨e, e1, e2.1, e2.2, q⟩, fun ⟨x, x1, x2, x3, x4⟩ => ?_⟩
    have : x = e := H.2.2 t ht x e x1 e1 (by rw [x2, x3, e2.1, e2.2]; exact mkeq_rfl)
    rw [← this]; exact x4
  · refine ⟨0, 0, e2, fun q => absurd rfl q, fun ⟨x, x1, x2, x3, x4⟩ => ?_⟩
    exact absurd (by rw [mkeq2]; exact ⟨x2, x3⟩) (e1 x x1)
theorem mlen_lp {N : Nat} (hN : BIG ≤ N) {σ : mS} {ts : List Int32} {es ps : Int32 → List Int32} {t : Int32} (H : FM σ ts es ps) (ht : t ∈ ts) (t0 : 0 ≤ t) (t1 : t < 3000) : ∀ (n : Nat) (m : Int32), 0 ≤ m → m ≤ 20000 → ((20000 : Int32).toInt - m.toInt).toNat < n → ∀ (a : Int32) (b : Int64), (a ≠ 0 ↔ mlv σ (es t) (m + 1)) → (∀ k, 1 ≤ k → k ≤ m → mlv σ (es t) k) → ∃ r b', mm_length_39 N n t (Int32.toInt64 m) (gt σ a b) = some (Int32.toInt64 r, md_ai (gt σ 0 b') 25 t.toNatClampNeg r) ∧ isLenM σ (es t) r := by
  refine loop_up _ (fun n m m0 m1 ih a b ha hl => ?_)
  have fa : sF (gt σ a b) 42 = a := by simp only [gt, sF_pi, sF_pl, sF_ai, sF_al, sG_pi, sG_pl, sG_ai, sG_al, sI_pi, sI_pl, sI_al, sI_ai1, sI_ai2, sJ_pi, sJ_pl, sJ_ai, sJ_al1, sJ_al2, Nat.reduceEqDiff, if_true, if_false, ne_eq, not_false_eq_true, ite_true, ite_false]
  rw [mm_length_39]
  by_cases c : a = 0
  · refine ⟨m, b, ?_, m0, m1, hl, fun q => (ha.mpr q) c⟩
    subst c
    rw [sF_fold, if_pos fa, gd_in (by decide) t0 t1, lt, h_ll]
  · have lv := ha.mp c
    have m2 := bd20 ht H hl lv m0 m1
    obtain ⟨a', b', g1, g2⟩ := get2_m hN (mf_FM (fr_gt (a := a) (b := b)) ⟨rfl, rfl, rfl, rfl, rfl⟩ ⟨rfl, rfl, rfl, rfl, rfl⟩ H) ht (k := m + 1 + 1)
    rw [mf_mlv fr_gt rfl rfl rfl] at g2
    rw [gt_gt] at g1
    obtain ⟨r, b'', r1, r2⟩ := ih m2 a' b' g2 (fun k k0 k1 => by
      by_cases w : k = m + 1
      · subst w; exact lv
      · exact hl k k0 (by lia))
    refine ⟨r, b'', ?_, r2⟩
    rw [sF_fold, if_neg (by rw [fa]; exact c), lt, ll_add m0 (by lia), ll_add (by lia) (by lia), g1]
    exact r1
theorem length_m {N : Nat} (hN : BIG ≤ N) {σ : mS} {ts : List Int32} {es ps : Int32 → List Int32} {t : Int32} (H : FM σ ts es ps) (ht : t ∈ ts) (t0 : 0 ≤ t) (t1 : t < 3000) (B : HM σ (es t) t) : ∃ n τ, mm_length N σ t = some (Int32.toInt64 n, τ) ∧ isLenM σ (es t) n ∧ HM τ (es t) t ∧ (∀ s, 0 ≤ s → s ≠ t → sI τ 25 s = sI σ 25 s) ∧ m_fr (fun k => [25, 42, 43].contains k) σ τ := by
  obtain ⟨a1, a2, a3, a4, a5, a6, a7, a8⟩ := B
  by_cases c : sI σ 27 t ≤ 0
  · obtain ⟨a, b, g1, g2⟩ := get2_m hN H ht (k := sI σ 25 t + 1)
    have all : ∀ k, 1 ≤ k → k ≤ sI σ 25 t → mlv σ (es t) k := fun k k0 k1 => by
      rcases a7 k k0 k1 (by lia) with q | ⟨i, i0, i1, _⟩
      · exact q
      · exfalso; lia
    obtain ⟨r, b', r1, r2⟩ := mlen_lp hN H ht t0 t1 N (sI σ 25 t) a1 a2 (big_d hN) a b g2 all
    have fr : m_fr (fun k => [25, 42, 43].contains k) σ (md_ai (gt σ 0 b') 25 t.toNatClampNeg r) := mf_ai (mf_pl (mf_pi mf_rfl rfl) rfl) rfl
    have i26 : mh (md_ai (gt σ 0 b') 25 t.toNatClampNeg r) t = mh σ t := by funext j; simp only [mh]; exact mf_I fr rfl
    refine ⟨r, _, ?_, r2, ?_, fun s s0 s1 => ?_, fr⟩
    · rw [mm_length, gd_in (by decide) t0 t1, sI_fold, if_pos c, gd_in (by decide) t0 t1, lt, sI_fold, ll_add a1 (by lia), g1]
      exact r1
    · simp only [HM]
      rw [i26, sI_ai2, mf_I fr rfl]
      obtain ⟨r3, r4, r5, r6⟩ := r2
      have lv : ∀ k, mlv (md_ai (gt σ 0 b') 25 t.toNatClampNeg r) (es t) k ↔ mlv σ (es t) k := fun k => mf_mlv fr rfl rfl rfl
      exact hm_mv lv ⟨r3, r4, a3, a4, fun i i0 i1 => by exfalso; lia, fun i j i0 ij j1 => by exfalso; lia, fun k k0 k1 _ => .inl (r5 k k0 k1), fun i i0 i1 => by exfalso; lia⟩
    · rw [sI_ai t0 s0, if_neg (fun q => s1 q.2)]; exact mf_I fr_gt rfl
  · obtain ⟨w1, w2⟩ := a5 0 (by decide) (by lia)
    have e0 : mh σ t 0 = sI σ 26 (16 * t) := by simp only [mh]; congr 1; lia
    refine ⟨mh σ t 0 - 1, σ, ?_, ⟨by lia, by lia, fun k k0 k1 => ?_, ?_⟩, ⟨a1, a2, a3, a4, a5, a6, a7, a8⟩, fun _ _ _ => rfl, mf_rfl⟩
    · have i0 : 0 ≤ 16 * t := by lia
      have i1 : 16 * t < 48000 := by lia
      have sub : Int32.toInt64 (sI σ 26 (16 * t)) - 1 = Int32.toInt64 (mh σ t 0 - 1) := by
        rw [e0] at w1 w2 ⊢
        have := ll_add (b := sI σ 26 (16 * t) - 1) (by lia) (by lia)
        rw [show sI σ 26 (16 * t) - 1 + 1 = sI σ 26 (16 * t) by lia] at this
        rw [← this]; lia
      rw [mm_length, gd_in (by decide) t0 t1, sI_fold, if_neg c, gd_in (by decide) i0 i1, sI_fold, sub]
    · rcases a7 k k0 (by lia) (by lia) with q | ⟨i, i0, i1, i2⟩
      · exact q
      · exfalso
        by_cases z : i = 0
        · subst z; lia
        · have := a6 0 i (by decide) (by lia) i1; lia
    · rw [show mh σ t 0 - 1 + 1 = mh σ t 0 by lia]
      exact a8 0 (by decide) (by lia) (by lia)
