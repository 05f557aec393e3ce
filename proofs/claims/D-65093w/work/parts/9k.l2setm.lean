/-! LAYER 2: the reference's tables: set on an entry that is there -/
def EM (σ : mS) (ts : List Int32) (es : Int32 → List Int32) : Prop := ts.Nodup ∧ (∀ t, t ∈ ts → 0 ≤ t ∧ t < 3000 ∧ seg (sI σ 36) (sI σ 21 t) (es t) (-1) ∧ sI σ 22 t = (es t).getLastD (-1) ∧ (es t).Nodup ∧ (sI σ 23 t).toInt = (((es t).filter (alm σ)).length : Int) ∧ (sI σ 24 t).toInt = (((es t).filter (fun e => !alm σ e)).length : Int)) ∧ 0 ≤ sF σ 40 ∧ sF σ 40 ≤ 20000 ∧ (∀ i, 0 ≤ i → i < sF σ 40 → 0 ≤ sI σ 39 i ∧ sI σ 39 i < 20000 ∧ ∀ t, t ∈ ts → sI σ 39 i ∉ es t) ∧ (∀ i j, 0 ≤ i → i < j → j < sF σ 40 → sI σ 39 i ≠ sI σ 39 j) ∧ (sF σ 40).toInt + ((ts.map (fun t => (es t).length)).sum : Int) = 20000 ∧ (sF σ 41).toInt = ((ts.map (fun t => (es t).length)).sum : Int)
def MM (σ : mS) (ts : List Int32) (es ps : Int32 → List Int32) : Prop := FM σ ts es ps ∧ (∀ t, t ∈ ts → HM σ (es t) t) ∧ EM σ ts es
theorem mlv_upd {σ τ : mS} {l : List Int32} {e j : Int32} (h2 : ∀ x, x ∈ l → sI τ 32 x = sI σ 32 x ∧ sJ τ 33 x = sJ σ 33 x) (h4 : ∀ x, x ∈ l → x ≠ e → sI τ 34 x = sI σ 34 x) (hn : ¬ (sI σ 32 e = 2 ∧ sJ σ 33 e = Int32.toInt64 j)) : mlv τ l j ↔ mlv σ l j := by
  constructor
  · rintro ⟨x, x1, x2, x3, x4⟩
    rw [(h2 x x1).1] at x2
    rw [(h2 x x1).2] at x3
    have xe : x ≠ e := fun q => hn (by rw [← q]; exact ⟨x2, x3⟩)
    exact ⟨x, x1, x2, x3, by rw [← h4 x x1 xe]; exact x4⟩
  · rintro ⟨x, x1, x2, x3, x4⟩
    have xe : x ≠ e := fun q => hn (by rw [← q]; exact ⟨x2, x3⟩)
    exact ⟨x, x1, by rw [(h2 x x1).1]; exact x2, by rw [(h2 x x1).2]; exact x3, by rw [h4 x x1 xe]; exact x4⟩
theorem mf_EM {P : Nat → Bool} {σ τ : mS} {ts : List Int32} {es : Int32 → List Int32} (fr : m_fr P σ τ) (h : P 21 = false ∧ P 22 = false ∧ P 23 = false ∧ P 24 = false ∧ P 34 = false ∧ P 36 = false ∧ P 39 = false ∧ P 40 = false ∧ P 41 = false) (H : EM σ ts es) : EM τ ts es := by
  obtain ⟨p1, p2, p3, p4, p5, p6, p7, p8, p9⟩ := h
  have al : alm τ = alm σ := by funext e; simp only [alm, mf_I fr p5]
  have i36 : sI τ 36 = sI σ 36 := by funext m; exact mf_I fr p6
  have i39 : sI τ 39 = sI σ 39 := by funext m; exact mf_I fr p7
  simp only [EM, al, i36, i39, mf_I fr p1, mf_I fr p2, mf_I fr p3, mf_I fr p4, mf_F fr p8, mf_F fr p9] at H ⊢
  exact H
def mZ (k : Nat) : Bool := [23, 24, 34, 35, 25, 26, 27].contains k
theorem set_old {N : Nat} (hN : BIG ≤ N) {σ : mS} {ts : List Int32} {es ps : Int32 → List Int32} {t e kt ty : Int32} {k v : Int64} (M : MM σ ts es ps) (ht : t ∈ ts) (he : e ∈ es t) (hq : mk_eq σ (sI σ 32 e) (sJ σ 33 e) kt k) (g0 : 0 ≤ ty) (g1 : ty ≤ 8) (hf : mm_find N σ t kt k = some (e, σ)) : ∃ τ, mm_set N σ t kt k ty v = some (1, τ) ∧ MM τ ts es ps ∧ (∀ x, 0 ≤ x → sI τ 34 x = if x = e then ty else sI σ 34 x) ∧ (∀ x, 0 ≤ x → sJ τ 35 x = if x = e then v else sJ σ 35 x) ∧ m_fr mZ σ τ := by
  obtain ⟨F, B, E1, E2, E3, E4, E5, E6, E7, E8⟩ := M
  obtain ⟨t0, t1, w1, w2, w3, w4, w5⟩ := E2 t ht
  obtain ⟨e0, e1, e2, e3⟩ := F.1 t ht e he
  have ekt : sI σ 32 e = kt := hq.1
  have ek : kt = 2 → sJ σ 33 e = k := fun q => by
    have := hq.2
    rw [ekt, if_neg (by rw [q]; decide)] at this
    exact this
  generalize hl : sI σ 23 t + ((if ty = 0 then (0 : Int32) else 1) - (if sI σ 34 e = 0 then (0 : Int32) else 1)) = lv'
  generalize hdd : sI σ 24 t + ((if sI σ 34 e = 0 then (0 : Int32) else 1) - (if ty = 0 then (0 : Int32) else 1)) = dd'
  generalize h2 : md_al (md_ai (md_ai (md_ai σ 23 t.toNatClampNeg lv') 24 t.toNatClampNeg dd') 34 e.toNatClampNeg ty) 35 e.toNatClampNeg v = σ2
  have fr : m_fr (fun k => [23, 24, 34, 35].contains k) σ σ2 := by
    rw [← h2]; exact mf_al (mf_ai (mf_ai (mf_ai mf_rfl rfl) rfl) rfl) rfl
  have i34 : ∀ x, 0 ≤ x → sI σ2 34 x = if x = e then ty else sI σ 34 x := fun x x0 => by
    rw [← h2, sI_al, sI_ai e0 x0, sI_ai1 (by decide), sI_ai1 (by decide)]
    simp only [true_and]
  have i35 : ∀ x, 0 ≤ x → sJ σ2 35 x = if x = e then v else sJ σ 35 x := fun x x0 => by
    rw [← h2, sJ_al e0 x0, sJ_ai, sJ_ai, sJ_ai]
    simp only [true_and]
  have i23 : ∀ s, 0 ≤ s → sI σ2 23 s = if s = t then lv' else sI σ 23 s := fun s s0 => by
    rw [← h2, sI_al, sI_ai1 (by decide), sI_ai1 (by decide), sI_ai t0 s0]
    simp only [true_and]
  have i24 : ∀ s, 0 ≤ s → sI σ2 24 s = if s = t then dd' else sI σ 24 s := fun s s0 => by
    rw [← h2, sI_al, sI_ai1 (by decide), sI_ai t0 s0, sI_ai1 (by decide)]
    simp only [true_and]
  have al : ∀ x, 0 ≤ x → alm σ2 x = if x = e then decide (ty ≠ 0) else alm σ x := fun x x0 => by
    simp only [alm]
    rw [i34 x x0]
    split <;> rfl
  have F2 : FM σ2 ts es ps := mf_FM fr ⟨rfl, rfl, rfl, rfl, rfl⟩ ⟨rfl, rfl, rfl, rfl, rfl⟩ F
  have kk : ∀ x, sI σ2 32 x = sI σ 32 x ∧ sJ σ2 33 x = sJ σ 33 x := fun x => ⟨mf_I fr rfl, mf_J fr rfl⟩
  have oe : ∀ s, s ∈ ts → s ≠ t → ∀ x, x ∈ es s → x ≠ e := fun s hs' c x hx q => c (by rw [← (F.1 s hs' x hx).2.2.1, q]; exact e2)
  have fl1 := cnt_flip (p := alm σ) (q := fun x => if x = e then decide (ty ≠ 0) else alm σ x) (e := e) (l := es t) w3 he (fun x _ xe => if_neg xe)
  have fl2 := cnt_flip (p := fun x => !alm σ x) (q := fun x => !(if x = e then decide (ty ≠ 0) else alm σ x)) (e := e) (l := es t) w3 he (fun x _ xe => by simp only [if_neg xe])
  have ale : alm σ e = decide (sI σ 34 e ≠ 0) := rfl
  simp only [if_true, ale] at fl1 fl2
  have len := nd_len (M := 20000) _ w3 (fun x hx => ⟨(F.1 t ht x hx).1, by have := (F.1 t ht x hx).2.1; rw [tI_lt] at this; exact this⟩)
  have l1 := List.length_filter_le (alm σ) (es t)
  have l2 := List.length_filter_le (fun x => !alm σ x) (es t)
  have one : (1 : Int32).toInt = 1 := rfl
  have cA : lv'.toInt = (((es t).filter (fun x => if x = e then decide (ty ≠ 0) else alm σ x)).length : Int) ∧ dd'.toInt = (((es t).filter (fun x => !(if x = e then decide (ty ≠ 0) else alm σ x))).length : Int) := by
    rw [← hl, ← hdd]
    have m1 : (1 : Int32) - 0 = 1 := rfl
    have m2 : (0 : Int32) - 1 = -1 := rfl
    have m3 : (0 : Int32) - 0 = 0 := rfl
    have m4 : (1 : Int32) - 1 = 0 := rfl
    have mm1 : (-1 : Int32).toInt = -1 := rfl
    have m0 : (0 : Int32).toInt = 0 := rfl
    by_cases c : sI σ 34 e = 0 <;> by_cases d : ty = 0 <;> simp [c, d] at fl1 fl2 <;> simp only [c, d, if_true, if_false, m1, m2, m3, m4] <;> refine ⟨?_, ?_⟩ <;> rw [tI_add] <;> (try simp only [one, mm1, m0]) <;> (try simp [d]) <;> omega
  obtain ⟨cA, cB⟩ := cA
  have E' : EM σ2 ts es := by
    have i36 : sI σ2 36 = sI σ 36 := by funext m; exact mf_I fr rfl
    have i39 : sI σ2 39 = sI σ 39 := by funext m; exact mf_I fr rfl
    refine ⟨E1, fun s hs' => ?_, by rw [mf_F fr rfl]; exact E3, by rw [mf_F fr rfl]; exact E4, by rw [i39, mf_F fr rfl]; exact E5, by rw [i39, mf_F fr rfl]; exact E6, by rw [mf_F fr rfl]; exact E7, by rw [mf_F fr rfl]; exact E8⟩
    obtain ⟨s0, s1, z1, z2, z3, z4, z5⟩ := E2 s hs'
    refine ⟨s0, s1, by rw [i36, mf_I fr rfl]; exact z1, by rw [mf_I fr rfl]; exact z2, z3, ?_, ?_⟩
    · rw [i23 s s0]
      by_cases c : s = t
      · subst c
        rw [if_pos rfl, cA, List.filter_congr (fun x hx => al x (F.1 s ht x hx).1)]
      · rw [if_neg c, z4, List.filter_congr (fun x hx => (al x (F.1 s hs' x hx).1).trans (if_neg (oe s hs' c x hx)))]
    · rw [i24 s s0]
      by_cases c : s = t
      · subst c
        rw [if_pos rfl, cB]
        congr 2
        exact (List.filter_congr (fun x hx => by rw [al x (F.1 s ht x hx).1])).symm
      · rw [if_neg c, z5]
        congr 2
        exact (List.filter_congr (fun x hx => by rw [al x (F.1 s hs' x hx).1, if_neg (oe s hs' c x hx)])).symm
  have lvo : ∀ s, s ∈ ts → ∀ j, (s = t → ¬ (sI σ 32 e = 2 ∧ sJ σ 33 e = Int32.toInt64 j) ∨ (ty = 0 ↔ sI σ 34 e = 0)) → (mlv σ2 (es s) j ↔ mlv σ (es s) j) := by
    intro s hs' j hj
    have st : ∀ x, x ∈ es s → (x = e → s = t) := fun x hx q => by
      apply Classical.byContradiction
      intro c
      exact oe s hs' c x hx q
    by_cases c : s = t
    · rcases hj c with q | q
      · exact mlv_upd (fun x _ => kk x) (fun x hx xe => by rw [i34 x (F.1 s hs' x hx).1, if_neg xe]) q
      · have same : ∀ x, x ∈ es s → (sI σ2 34 x ≠ 0 ↔ sI σ 34 x ≠ 0) := fun x hx => by
          rw [i34 x (F.1 s hs' x hx).1]
          by_cases xe : x = e
          · subst xe; rw [if_pos rfl]; exact not_congr q
          · rw [if_neg xe]
        constructor
        · rintro ⟨x, x1, x2, x3, x4⟩
          exact ⟨x, x1, by rw [← (kk x).1]; exact x2, by rw [← (kk x).2]; exact x3, (same x x1).mp x4⟩
        · rintro ⟨x, x1, x2, x3, x4⟩
          exact ⟨x, x1, by rw [(kk x).1]; exact x2, by rw [(kk x).2]; exact x3, (same x x1).mpr x4⟩
    · constructor
      · rintro ⟨x, x1, x2, x3, x4⟩
        rw [i34 x (F.1 s hs' x x1).1, if_neg (oe s hs' c x x1)] at x4
        exact ⟨x, x1, by rw [← (kk x).1]; exact x2, by rw [← (kk x).2]; exact x3, x4⟩
      · rintro ⟨x, x1, x2, x3, x4⟩
        refine ⟨x, x1, by rw [(kk x).1]; exact x2, by rw [(kk x).2]; exact x3, ?_⟩
        rw [i34 x (F.1 s hs' x x1).1, if_neg (oe s hs' c x x1)]; exact x4
  have i25 : ∀ s, sI σ2 25 s = sI σ 25 s := fun s => mf_I fr rfl
  have i27 : ∀ s, sI σ2 27 s = sI σ 27 s := fun s => mf_I fr rfl
  have imh : ∀ s, mh σ2 s = mh σ s := fun s => by funext i; exact mf_I fr rfl
  have hmo : ∀ s, s ∈ ts → (∀ j, mlv σ2 (es s) j ↔ mlv σ (es s) j) → HM σ2 (es s) s := fun s hs' lv => by
    simp only [HM]
    rw [i25, i27, imh]
    exact hm_mv lv (B s hs')
  have oth : ∀ s, s ∈ ts → s ≠ t → HM σ2 (es s) s := fun s hs' c => hmo s hs' (fun j => lvo s hs' j (fun q => absurd q c))
  have pl : ∀ (x : Option (Int32 × mS)), mm_set N σ t kt k ty v = some (1, σ2) → HM σ2 (es t) t → ∃ τ, mm_set N σ t kt k ty v = some (1, τ) ∧ MM τ ts es ps ∧ (∀ x, 0 ≤ x → sI τ 34 x = if x = e then ty else sI σ 34 x) ∧ (∀ x, 0 ≤ x → sJ τ 35 x = if x = e then v else sJ σ 35 x) ∧ m_fr mZ σ τ := by
    intro _ ex hm
    refine ⟨σ2, ex, ⟨F2, fun s hs' => ?_, E'⟩, i34, i35, mf_mono fr (fun k hk => ?_)⟩
    · by_cases c : s = t
      · subst c; exact hm
      · exact oth s hs' c
    · simp only [mZ, List.contains_cons, List.contains_nil, Bool.or_eq_false_iff] at hk ⊢
      exact ⟨hk.1, hk.2.1, hk.2.2.1, hk.2.2.2.1, trivial⟩
  -- the code
  have nt := nar_tag g0 g1
  have en : ¬ e < 0 := by lia
  have pre : mm_set N σ t kt k ty v = (if (ty = 0 ↔ sI σ 34 e = 0) then some (1, σ2) else (if kt = 2 then (if lg_cmp k 1 < 0 then some (1, σ2) else (if 0 < lg_cmp k (Int32.toInt64 (sI σ 25 t)) then some (1, σ2) else bd (mm_hole N σ2 t k.toInt32 (if ty = 0 then 1 else 0)) (fun z => some (1, z)))) else some (1, σ2))) := by
    have r1 : mm_set N σ t kt k ty v = (if sI σ 34 e = 0 then mm_set_29 N t kt k ty v e 0 σ else mm_set_29 N t kt k ty v e 1 σ) := by
      rw [mm_set, hf]
      simp only [bd]
      rw [if_neg en, gd_in (by decide) e0 e1, sI_fold]
    rw [r1]
    have st : ∀ (σ3 : mS), md_al (md_ai (md_ai (md_ai σ 23 t.toNatClampNeg lv') 24 t.toNatClampNeg dd') 34 e.toNatClampNeg (vp_nar .byte (ty.toInt8.toInt32))) 35 e.toNatClampNeg v = σ2 := fun _ => by rw [nt]; exact h2
    have i24' : sI (md_ai σ 23 t.toNatClampNeg lv') 24 t = sI σ 24 t := by rw [sI_ai1 (by decide)]
    by_cases c : sI σ 34 e = 0
    · by_cases d : ty = 0
      · simp only [c, d, if_true] at hl hdd
        rw [if_pos c, if_pos (by simp [c, d])]
        simp only [mm_set_29, if_pos d, mm_set_41, mm_set_60, mm_set_70, mm_set_90, mm_set_100, if_true, mm_set_169]
        rw [gd_in (by decide) t0 t1, gd_in (by decide) t0 t1, lt, gd_in (by decide) t0 t1, gd_in (by decide) t0 t1, lt, gd_in (by decide) e0 e1, lt, gd_in (by decide) e0 e1, lt, gd_z1, sI_fold, hl, sI_fold, i24', hdd, st σ]
      · simp only [c, d, if_true, if_false] at hl hdd
        rw [if_pos c, if_neg (by simp [c, d])]
        simp only [mm_set_29, if_neg d, mm_set_41, if_neg (show ¬ (1 : Int32) = 0 by decide), mm_set_60, if_true, mm_set_70, mm_set_90, mm_set_100, mm_set_166, mm_set_169, if_neg (show ¬ (1 : Int32) = 0 by decide)]
        rw [gd_in (by decide) t0 t1, gd_in (by decide) t0 t1, lt, gd_in (by decide) t0 t1, gd_in (by decide) t0 t1, lt, gd_in (by decide) e0 e1, lt, gd_in (by decide) e0 e1, lt, gd_in (by decide) t0 t1, gd_z1, sI_fold, hl, sI_fold, i24', hdd, st σ, sI_fold, i25]
        rfl
    · by_cases d : ty = 0
      · simp only [c, d, if_true, if_false] at hl hdd
        rw [if_neg c, if_neg (by simp [c, d])]
        simp only [mm_set_29, if_pos d, mm_set_41, if_true, mm_set_60, if_neg (show ¬ (1 : Int32) = 0 by decide), mm_set_70, mm_set_90, mm_set_100, mm_set_166, mm_set_169, if_neg (show ¬ (0 : Int32) = 1 by decide)]
        rw [gd_in (by decide) t0 t1, gd_in (by decide) t0 t1, lt, gd_in (by decide) t0 t1, gd_in (by decide) t0 t1, lt, gd_in (by decide) e0 e1, lt, gd_in (by decide) e0 e1, lt, gd_in (by decide) t0 t1, gd_z1, sI_fold, hl, sI_fold, i24', hdd, st σ, sI_fold, i25]
        rfl
      · simp only [c, d, if_false] at hl hdd
        rw [if_neg c, if_pos (by simp [c, d])]
        simp only [mm_set_29, if_neg d, mm_set_41, if_neg (show ¬ (1 : Int32) = 0 by decide), mm_set_60, mm_set_70, mm_set_90, mm_set_100, if_true, mm_set_169]
        rw [gd_in (by decide) t0 t1, gd_in (by decide) t0 t1, lt, gd_in (by decide) t0 t1, gd_in (by decide) t0 t1, lt, gd_in (by decide) e0 e1, lt, gd_in (by decide) e0 e1, lt, gd_z1, sI_fold, hl, sI_fold, i24', hdd, st σ]
  by_cases ch : (ty = 0 ↔ sI σ 34 e = 0)
  · exact pl none (by rw [pre, if_pos ch]) (hmo t ht (fun j => lvo t ht j (fun _ => .inr ch)))
  · rw [if_neg ch] at pre
    have b8 := B t ht
    obtain ⟨bK0, bK1, _⟩ := b8
    have noK : (¬ (kt = 2 ∧ 1 ≤ k ∧ k ≤ Int32.toInt64 (sI σ 25 t))) → HM σ2 (es t) t := by
      intro hno
      obtain ⟨a1, a2, a3, a4, a5, a6, a7, a8⟩ := B t ht
      have nk : ∀ j, 1 ≤ j → j ≤ sI σ 25 t → (mlv σ2 (es t) j ↔ mlv σ (es t) j) := fun j j0 j1 => lvo t ht j (fun _ => .inl (fun q => hno (by
        rw [ekt] at q
        have kq := ek q.1
        rw [q.2] at kq
        refine ⟨q.1, ?_, ?_⟩
        · rw [← kq, show (1 : Int64) = Int32.toInt64 1 from rfl, le64]; exact j0
        · rw [← kq, le64]; exact j1)))
      simp only [HM]
      rw [i25, i27, imh]
      refine ⟨a1, a2, a3, a4, a5, a6, fun j j0 j1 j2 => ?_, fun i i0 i1 i2 => ?_⟩
      · rw [nk j j0 j1]; exact a7 j j0 j1 j2
      · have := a5 i i0 i1
        rw [nk _ this.1 this.2]; exact a8 i i0 i1 i2
    by_cases d : kt = 2
    · rw [if_pos d] at pre
      by_cases f : k < 1
      · exact pl none (by rw [pre, if_pos (lgc_lt.mpr f)]) (noK (fun q => by have := q.2.1; lia))
      · rw [if_neg (fun q => f (lgc_lt.mp q))] at pre
        by_cases g : Int32.toInt64 (sI σ 25 t) < k
        · exact pl none (by rw [pre, if_pos (lgc_gt.mpr g)]) (noK (fun q => by have := q.2.2; lia))
        · rw [if_neg (fun q => g (lgc_gt.mp q))] at pre
          have kr : Int32.toInt64 1 ≤ k ∧ k ≤ Int32.toInt64 (sI σ 25 t) := ⟨by show (1 : Int64) ≤ k; lia, by lia⟩
          obtain ⟨bk, k1, k2⟩ := back64 kr.1 kr.2
          generalize hj : k.toInt32 = j at *
          have key2 : sI σ 32 e = 2 ∧ sJ σ 33 e = Int32.toInt64 j := ⟨ekt.trans d, (ek d).trans bk.symm⟩
          have uniq : ∀ y, y ∈ es t → sI σ 32 y = 2 → sJ σ 33 y = Int32.toInt64 j → y = e := fun y y1 y2 y3 => F.2.2 t ht y e y1 he (by rw [y2, y3, key2.1, key2.2]; exact mkeq_rfl)
          have lvj : mlv σ (es t) j ↔ sI σ 34 e ≠ 0 := ⟨fun ⟨y, y1, y2, y3, y4⟩ => by rw [← uniq y y1 y2 y3]; exact y4, fun q => ⟨e, he, key2.1, key2.2, q⟩⟩
          have lvj2 : mlv σ2 (es t) j ↔ ty ≠ 0 := by
            constructor
            · rintro ⟨y, y1, y2, y3, y4⟩
              rw [(kk y).1] at y2; rw [(kk y).2] at y3
              rw [uniq y y1 y2 y3, i34 e e0, if_pos rfl] at y4
              exact y4
            · intro q
              exact ⟨e, he, by rw [(kk e).1]; exact key2.1, by rw [(kk e).2]; exact key2.2, by rw [i34 e e0, if_pos rfl]; exact q⟩
          have nk : ∀ i, i ≠ j → (mlv σ2 (es t) i ↔ mlv σ (es t) i) := fun i ij => lvo t ht i (fun _ => .inl (fun q => ij (ll_inj (by rw [← q.2, key2.2]))))
          obtain ⟨a1, a2, a3, a4, a5, a6, a7, a8⟩ := B t ht
          have He : HMe σ2 (es t) (mh σ2 t) (sI σ2 27 t) (sI σ2 25 t) j := by
            rw [i25, i27, imh]
            exact ⟨a1, a2, a3, a4, a5, a6, fun i i0 i1 i2 => by rw [nk i i2]; exact a7 i i0 i1 (by lia), fun i i0 i1 i2 => by rw [nk _ i2]; exact a8 i i0 i1 (by have := a5 i i0 i1; lia)⟩
          obtain ⟨τ, r1, r2, r3, r4⟩ := hole_m hN (op := if ty = 0 then 1 else 0) t0 t1 He k1 (by rw [i25]; exact k2) (fun q => by
            have tn : ty ≠ 0 := fun z => by rw [if_pos z] at q; exact absurd q (by decide)
            refine ⟨lvj2.mpr tn, ?_⟩
            rw [i27, imh]
            have was : sI σ 34 e = 0 := by
              apply Classical.byContradiction
              intro w
              exact ch ⟨fun z => absurd z tn, fun z => absurd z w⟩
            rcases a7 j k1 k2 (by lia) with w | w
            · exact absurd was (lvj.mp w)
            · exact w) (fun q => by
            have tz : ty = 0 := by
              apply Classical.byContradiction
              intro z
              rw [if_neg z] at q
              exact q rfl
            have was : sI σ 34 e ≠ 0 := fun w => ch ⟨fun _ => w, fun _ => tz⟩
            refine ⟨fun w => (lvj2.mp w) tz, fun i i0 i1 w => ?_⟩
            rw [i27] at i1
            rw [imh] at w
            exact a8 i i0 i1 (by lia) (by rw [w]; exact lvj.mpr was))
          refine ⟨τ, ?_, ⟨mf_FM r4 ⟨rfl, rfl, rfl, rfl, rfl⟩ ⟨rfl, rfl, rfl, rfl, rfl⟩ F2, fun s hs' => ?_, mf_EM r4 ⟨rfl, rfl, rfl, rfl, rfl, rfl, rfl, rfl, rfl⟩ E'⟩, fun x x0 => by rw [mf_I r4 rfl]; exact i34 x x0, fun x x0 => by rw [mf_J r4 rfl]; exact i35 x x0, mf_tr (mf_mono fr (fun k hk => ?_)) (mf_mono r4 (fun k hk => ?_))⟩
          · rw [pre, r1]; rfl
          · by_cases c : s = t
            · subst c; exact r2
            · obtain ⟨s0, s1, _⟩ := E2 s hs'
              obtain ⟨o1, o2, o3⟩ := r3 s s0 s1 c
              have h := oth s hs' c
              simp only [HM] at h ⊢
              rw [o1, o2]
              exact hmc (hm_mv (fun k => mf_mlv r4 rfl rfl rfl) h) (fun i i0 i1 => o3 i i0 (by have := h.2.2.2.1; lia))
          · simp only [mZ, List.contains_cons, List.contains_nil, Bool.or_eq_false_iff] at hk ⊢
            exact ⟨hk.1, hk.2.1, hk.2.2.1, hk.2.2.2.1, trivial⟩
          · simp only [mZ, hm3, List.contains_cons, List.contains_nil, Bool.or_eq_false_iff] at hk ⊢
            exact hk.2.2.2.2
    · exact pl none (by rw [pre, if_neg d]) (noK (fun q => d q.1))
