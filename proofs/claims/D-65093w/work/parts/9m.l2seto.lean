/-! LAYER 2: the reference's tables: set whole -/
theorem set_nw {N : Nat} (hN : BIG ≤ N) {σ : mS} {ts : List Int32} {es ps : Int32 → List Int32} {t kt ty : Int32} {k v : Int64} (M : MM σ ts es ps) (ht : t ∈ ts) (hk : mk_ok σ kt k) (no : ∀ x, x ∈ es t → ¬ mk_eq σ (sI σ 32 x) (sJ σ 33 x) kt k) (g0 : 0 < ty) (g1 : ty ≤ 8) (hc : sF σ 40 ≠ 0) : ∃ e τ ps', mm_set_209 N t kt k ty v σ = some (1, τ) ∧ (∀ s, s ∈ ts → e ∉ es s) ∧ MM τ ts (fU es t (es t ++ [e])) ps' ∧ (∀ x, 0 ≤ x → sI τ 32 x = if x = e then kt else sI σ 32 x) ∧ (∀ x, 0 ≤ x → sJ τ 33 x = if x = e then k else sJ σ 33 x) ∧ (∀ x, 0 ≤ x → sI τ 34 x = if x = e then ty else sI σ 34 x) ∧ (∀ x, 0 ≤ x → sJ τ 35 x = if x = e then v else sJ σ 35 x) ∧ sF τ 41 = sF σ 41 + 1 ∧ m_fr (fun k => mE k || hm3 k) σ τ := by
  have M' := M
  obtain ⟨F, B, E1, E2, E3, E4, E5, E6, E7, E8⟩ := M
  obtain ⟨t0, t1, _, y2, _⟩ := E2 t ht
  have c0 : 0 ≤ sF σ 40 - 1 := by lia
  have c1 : sF σ 40 - 1 < 20000 := by lia
  generalize hee : sI σ 39 (sF σ 40 - 1) = e
  have ee := E5 (sF σ 40 - 1) c0 (by lia)
  rw [hee] at ee
  obtain ⟨e0, e1, e2⟩ := ee
  have pr := @chf_rng σ t kt k
  generalize hp : chf σ t kt k = p at pr
  obtain ⟨p0, p1⟩ := pr
  obtain ⟨k0, k6, k3'⟩ := hk
  have nt := nar_tag (t := kt) (by lia) (by lia)
  have nt2 := nar_tag (t := ty) (by lia) g1
  have lst : sI σ 22 t = -1 ∨ (0 ≤ sI σ 22 t ∧ sI σ 22 t < 20000 ∧ sI σ 22 t ≠ e) := by
    rcases List.eq_nil_or_concat (es t) with q | ⟨l', w, q⟩
    · left; rw [y2, q]; rfl
    · right
      have wm : sI σ 22 t ∈ es t := by rw [y2, q]; simp
      have := F.1 t ht _ wm
      exact ⟨this.1, this.2.1, fun z => e2 t ht (by rw [← z]; exact wm)⟩
  -- the state behind the chain
  generalize hs15 : md_ai (md_ai (md_ai (md_al (md_ai (md_al (md_ai (md_ai (md_pi σ 40 (sF σ 40 - 1)) 31 e.toNatClampNeg t) 32 e.toNatClampNeg kt) 33 e.toNatClampNeg k) 34 e.toNatClampNeg ty) 35 e.toNatClampNeg v) 36 e.toNatClampNeg (-1)) 37 e.toNatClampNeg (sI σ 38 p)) 38 p.toNatClampNeg (e + 1) = s15
  have fr15 : m_fr (fun k => [31, 32, 33, 34, 35, 36, 37, 38, 40].contains k) σ s15 := by
    rw [← hs15]
    exact mf_ai (mf_ai (mf_ai (mf_al (mf_ai (mf_al (mf_ai (mf_ai (mf_pi mf_rfl rfl) rfl) rfl) rfl) rfl) rfl) rfl) rfl) rfl
  have x31 : ∀ x, 0 ≤ x → sI s15 31 x = if x = e then t else sI σ 31 x := fun x x0 => by
    rw [← hs15]; simp (disch := lia) only [sF_pi, sF_pl, sF_ai, sF_al, sG_pi, sG_pl, sG_ai, sG_al, sI_pi, sI_pl, sI_al, sI_ai1, sI_ai2, sJ_pi, sJ_pl, sJ_ai, sJ_al1, sJ_al2, Nat.reduceEqDiff, if_true, if_false, ne_eq, not_false_eq_true, ite_true, ite_false, sI_ai, true_and]
  have x32 : ∀ x, 0 ≤ x → sI s15 32 x = if x = e then kt else sI σ 32 x := fun x x0 => by
    rw [← hs15]; simp (disch := lia) only [sF_pi, sF_pl, sF_ai, sF_al, sG_pi, sG_pl, sG_ai, sG_al, sI_pi, sI_pl, sI_al, sI_ai1, sI_ai2, sJ_pi, sJ_pl, sJ_ai, sJ_al1, sJ_al2, Nat.reduceEqDiff, if_true, if_false, ne_eq, not_false_eq_true, ite_true, ite_false, sI_ai, true_and]
  have x34 : ∀ x, 0 ≤ x → sI s15 34 x = if x = e then ty else sI σ 34 x := fun x x0 => by
    rw [← hs15]; simp (disch := lia) only [sF_pi, sF_pl, sF_ai, sF_al, sG_pi, sG_pl, sG_ai, sG_al, sI_pi, sI_pl, sI_al, sI_ai1, sI_ai2, sJ_pi, sJ_pl, sJ_ai, sJ_al1, sJ_al2, Nat.reduceEqDiff, if_true, if_false, ne_eq, not_false_eq_true, ite_true, ite_false, sI_ai, true_and]
  have x36 : ∀ x, 0 ≤ x → sI s15 36 x = if x = e then -1 else sI σ 36 x := fun x x0 => by
    rw [← hs15]; simp (disch := lia) only [sF_pi, sF_pl, sF_ai, sF_al, sG_pi, sG_pl, sG_ai, sG_al, sI_pi, sI_pl, sI_al, sI_ai1, sI_ai2, sJ_pi, sJ_pl, sJ_ai, sJ_al1, sJ_al2, Nat.reduceEqDiff, if_true, if_false, ne_eq, not_false_eq_true, ite_true, ite_false, sI_ai, true_and]
  have x37 : ∀ x, 0 ≤ x → sI s15 37 x = if x = e then sI σ 38 p else sI σ 37 x := fun x x0 => by
    rw [← hs15]; simp (disch := lia) only [sF_pi, sF_pl, sF_ai, sF_al, sG_pi, sG_pl, sG_ai, sG_al, sI_pi, sI_pl, sI_al, sI_ai1, sI_ai2, sJ_pi, sJ_pl, sJ_ai, sJ_al1, sJ_al2, Nat.reduceEqDiff, if_true, if_false, ne_eq, not_false_eq_true, ite_true, ite_false, sI_ai, true_and]
  have x38 : ∀ x, 0 ≤ x → sI s15 38 x = if x = p then e + 1 else sI σ 38 x := fun x x0 => by
    rw [← hs15]; simp (disch := lia) only [sF_pi, sF_pl, sF_ai, sF_al, sG_pi, sG_pl, sG_ai, sG_al, sI_pi, sI_pl, sI_al, sI_ai1, sI_ai2, sJ_pi, sJ_pl, sJ_ai, sJ_al1, sJ_al2, Nat.reduceEqDiff, if_true, if_false, ne_eq, not_false_eq_true, ite_true, ite_false, sI_ai, true_and]
  have x33 : ∀ x, 0 ≤ x → sJ s15 33 x = if x = e then k else sJ σ 33 x := fun x x0 => by
    rw [← hs15]; simp (disch := lia) only [sF_pi, sF_pl, sF_ai, sF_al, sG_pi, sG_pl, sG_ai, sG_al, sI_pi, sI_pl, sI_al, sI_ai1, sI_ai2, sJ_pi, sJ_pl, sJ_ai, sJ_al1, sJ_al2, Nat.reduceEqDiff, if_true, if_false, ne_eq, not_false_eq_true, ite_true, ite_false, sJ_al, true_and]
  have x35 : ∀ x, 0 ≤ x → sJ s15 35 x = if x = e then v else sJ σ 35 x := fun x x0 => by
    rw [← hs15]; simp (disch := lia) only [sF_pi, sF_pl, sF_ai, sF_al, sG_pi, sG_pl, sG_ai, sG_al, sI_pi, sI_pl, sI_al, sI_ai1, sI_ai2, sJ_pi, sJ_pl, sJ_ai, sJ_al1, sJ_al2, Nat.reduceEqDiff, if_true, if_false, ne_eq, not_false_eq_true, ite_true, ite_false, sJ_al, true_and]
  have x40 : sF s15 40 = sF σ 40 - 1 := by rw [← hs15]; simp only [sF_pi, sF_pl, sF_ai, sF_al, sG_pi, sG_pl, sG_ai, sG_al, sI_pi, sI_pl, sI_al, sI_ai1, sI_ai2, sJ_pi, sJ_pl, sJ_ai, sJ_al1, sJ_al2, Nat.reduceEqDiff, if_true, if_false, ne_eq, not_false_eq_true, ite_true, ite_false]
  have i22 : ∀ s, sI s15 22 s = sI σ 22 s := fun s => mf_I fr15 rfl
  have code1 : mm_set_209 N t kt k ty v σ = (if 0 ≤ sI σ 22 t then gd (inB t 3000) (gd (inB (sI σ 22 t) 20000) (mm_set_363 N t kt k e (md_ai s15 36 (sI σ 22 t).toNatClampNeg e))) else gd (inB t 3000) (mm_set_363 N t kt k e (md_ai s15 21 t.toNatClampNeg e))) := by
    have fr12 : m_fr (fun k => [31, 32, 33, 34, 35, 36, 40].contains k) σ (md_ai (md_al (md_ai (md_al (md_ai (md_ai (md_pi σ 40 (sF σ 40 - 1)) 31 e.toNatClampNeg t) 32 e.toNatClampNeg kt) 33 e.toNatClampNeg k) 34 e.toNatClampNeg ty) 35 e.toNatClampNeg v) 36 e.toNatClampNeg (-1)) := mf_ai (mf_al (mf_ai (mf_al (mf_ai (mf_ai (mf_pi mf_rfl rfl) rfl) rfl) rfl) rfl) rfl) rfl
    obtain ⟨A1, A2⟩ := mf_M fr12 ⟨rfl, rfl, rfl, rfl, rfl⟩
    have ch := chainOf_m (N := N) (t := t) (ty := kt) (k := k) (σ := md_ai (md_al (md_ai (md_al (md_ai (md_ai (md_pi σ 40 (sF σ 40 - 1)) 31 e.toNatClampNeg t) 32 e.toNatClampNeg kt) 33 e.toNatClampNeg k) 34 e.toNatClampNeg ty) 35 e.toNatClampNeg v) 36 e.toNatClampNeg (-1)) (by simp only [mk_ok, A1]; exact ⟨k0, k6, k3'⟩)
    have cq : chf (md_ai (md_al (md_ai (md_al (md_ai (md_ai (md_pi σ 40 (sF σ 40 - 1)) 31 e.toNatClampNeg t) 32 e.toNatClampNeg kt) 33 e.toNatClampNeg k) 34 e.toNatClampNeg ty) 35 e.toNatClampNeg v) 36 e.toNatClampNeg (-1)) t kt k = p := by
      rw [← hp]
      have g : ∀ m, sI (md_ai (md_al (md_ai (md_al (md_ai (md_ai (md_pi σ 40 (sF σ 40 - 1)) 31 e.toNatClampNeg t) 32 e.toNatClampNeg kt) 33 e.toNatClampNeg k) 34 e.toNatClampNeg ty) 35 e.toNatClampNeg v) 36 e.toNatClampNeg (-1)) 4 m = sI σ 4 m := fun m => mf_I fr12 rfl
      simp only [chf, g]
    rw [cq] at ch
    have g38 : sI (md_ai (md_al (md_ai (md_al (md_ai (md_ai (md_pi σ 40 (sF σ 40 - 1)) 31 e.toNatClampNeg t) 32 e.toNatClampNeg kt) 33 e.toNatClampNeg k) 34 e.toNatClampNeg ty) 35 e.toNatClampNeg v) 36 e.toNatClampNeg (-1)) 38 p = sI σ 38 p := mf_I fr12 rfl
    clear F B E2 E5 E6 M' no x31 x32 x33 x34 x35 x36 x37 x38 A1 A2 cq fr12
    simp (disch := lia) only [mm_set_209, lt, gd_in, if_neg, sF_fold, sI_fold, sF_pi, sI_pi, if_true, hc, hee, nt, nt2]
    rw [ch]
    simp (disch := lia) only [bd, lt, gd_in, sI_fold, g38, hs15]
    rw [i22]
    rcases lst with l | ⟨l1, l2, l3⟩
    · rw [if_neg (by rw [l]; decide), if_neg (by rw [l]; decide)]
    · rw [if_pos l1, if_pos l1, gd_in (by decide) l1 l2]
  -- from there on
  have fin : ∀ s16 : mS, m_fr (fun k => [21, 36].contains k) s15 s16 → sI s16 36 e = -1 → (∀ x, 0 ≤ x → x ≠ e → x ≠ sI σ 22 t → sI s16 36 x = sI σ 36 x) → (sI σ 22 t ≠ -1 → sI s16 36 (sI σ 22 t) = e) → (∀ s, 0 ≤ s → sI s16 21 s = if s = t ∧ sI σ 22 t = -1 then e else sI σ 21 s) → mm_set_209 N t kt k ty v σ = mm_set_363 N t kt k e s16 → ∃ e τ ps', mm_set_209 N t kt k ty v σ = some (1, τ) ∧ (∀ s, s ∈ ts → e ∉ es s) ∧ MM τ ts (fU es t (es t ++ [e])) ps' ∧ (∀ x, 0 ≤ x → sI τ 32 x = if x = e then kt else sI σ 32 x) ∧ (∀ x, 0 ≤ x → sJ τ 33 x = if x = e then k else sJ σ 33 x) ∧ (∀ x, 0 ≤ x → sI τ 34 x = if x = e then ty else sI σ 34 x) ∧ (∀ x, 0 ≤ x → sJ τ 35 x = if x = e then v else sJ σ 35 x) ∧ sF τ 41 = sF σ 41 + 1 ∧ m_fr (fun k => mE k || hm3 k) σ τ := by
    intro s16 fr16 a36 b36 c36 a21 ex
    generalize h2 : md_pi (md_ai (md_ai s16 22 t.toNatClampNeg e) 23 t.toNatClampNeg (sI σ 23 t + 1)) 41 (sF σ 41 + 1) = σ2
    have th : ∀ kk m, kk ≠ 21 → kk ≠ 36 → kk ≠ 22 → kk ≠ 23 → sI σ2 kk m = sI s15 kk m := fun kk m q1 q2 q3 q4 => by
      rw [← h2, sI_pi, sI_ai1 q4, sI_ai1 q3]
      have : (fun k => [21, 36].contains k) kk = false := by simp [q1, q2]
      exact mf_I fr16 this
    have thJ : ∀ kk m, kk ≠ 21 → kk ≠ 36 → sJ σ2 kk m = sJ s15 kk m := fun kk m q1 q2 => by
      rw [← h2, sJ_pi, sJ_ai, sJ_ai]
      have : (fun k => [21, 36].contains k) kk = false := by simp [q1, q2]
      exact mf_J fr16 this
    have fr2 : m_fr mE σ σ2 := by
      rw [← h2]
      refine mf_pi (mf_ai (mf_ai (mf_tr (mf_mono fr15 (fun k hk => ?_)) (mf_mono fr16 (fun k hk => ?_))) rfl) rfl) rfl
      · simp only [mE, List.contains_cons, List.contains_nil, Bool.or_eq_false_iff] at hk ⊢
        obtain ⟨q1, q2, q3, q4, q5, q6, q7, q8, q9, q10, q11, q12, _⟩ := hk
        exact ⟨q4, q5, q6, q7, q8, q9, q10, q11, q12, trivial⟩
      · simp only [mE, List.contains_cons, List.contains_nil, Bool.or_eq_false_iff] at hk ⊢
        obtain ⟨q1, q2, q3, q4, q5, q6, q7, q8, q9, q10, q11, q12, _⟩ := hk
        exact ⟨q1, q9, trivial⟩
    obtain ⟨P1, P2, P3, P4, P5, P6, P7, P8, P9⟩ := ment_pst (τ := σ2) (ty := ty) M' ht ⟨k0, k6, k3'⟩ no hp (by lia) hc hee fr2 (fun x x0 => by rw [th 32 x (by decide) (by decide) (by decide) (by decide)]; exact x32 x x0) (fun x x0 => by rw [thJ 33 x (by decide) (by decide)]; exact x33 x x0) (fun x x0 => by rw [th 34 x (by decide) (by decide) (by decide) (by decide)]; exact x34 x x0) (fun x x0 => by rw [th 31 x (by decide) (by decide) (by decide) (by decide)]; exact x31 x x0) (by rw [← h2, sI_pi, sI_ai1 (by decide), sI_ai1 (by decide)]; exact a36) (fun x x0 x1 x2 => by rw [← h2, sI_pi, sI_ai1 (by decide), sI_ai1 (by decide)]; exact b36 x x0 x1 x2) (fun q => by rw [← h2, sI_pi, sI_ai1 (by decide), sI_ai1 (by decide)]; exact c36 q) (fun x x0 => by rw [th 37 x (by decide) (by decide) (by decide) (by decide)]; exact x37 x x0) (fun x x0 => by rw [th 38 x (by decide) (by decide) (by decide) (by decide)]; exact x38 x x0) (fun s s0 => by rw [← h2, sI_pi, sI_ai1 (by decide), sI_ai1 (by decide)]; exact a21 s s0) (fun s s0 => by
      rw [← h2, sI_pi, sI_ai1 (by decide), sI_ai t0 s0, mf_I fr16 rfl, i22]
      simp only [true_and]) (fun s s0 => by
      rw [← h2, sI_pi, sI_ai t0 s0, sI_ai1 (by decide), mf_I fr16 rfl, mf_I fr15 rfl]
      simp only [true_and]) (by rw [← h2, sF_pi, if_neg (by decide), sF_ai, sF_ai, mf_F fr16 rfl]; exact x40) (by rw [← h2]; simp only [sF_pi, sF_pl, sF_ai, sF_al, sG_pi, sG_pl, sG_ai, sG_al, sI_pi, sI_pl, sI_al, sI_ai1, sI_ai2, sJ_pi, sJ_pl, sJ_ai, sJ_al1, sJ_al2, Nat.reduceEqDiff, if_true, if_false, ne_eq, not_false_eq_true, ite_true, ite_false])
    have imh : ∀ s, mh σ2 s = mh σ s := fun s => by funext i; exact mf_I fr2 rfl
    have i25 : ∀ s, sI σ2 25 s = sI σ 25 s := fun s => mf_I fr2 rfl
    have i27 : ∀ s, sI σ2 27 s = sI σ 27 s := fun s => mf_I fr2 rfl
    have oth : ∀ s, s ∈ ts → s ≠ t → HM σ2 (fU es t (es t ++ [e]) s) s := fun s hs' c => by
      rw [fU_o c]
      simp only [HM]
      rw [i25, i27, imh]
      exact hm_mv (P6 s hs') (B s hs')
    have lvt : ∀ j, ¬ (kt = 2 ∧ k = Int32.toInt64 j) → (mlv σ2 (es t ++ [e]) j ↔ mlv σ (es t) j) := fun j hj => by
      rw [← P6 t ht]
      constructor
      · rintro ⟨x, x1, x2, x3, x4⟩
        rcases List.mem_append.mp x1 with w | w
        · exact ⟨x, w, x2, x3, x4⟩
        · have : x = e := by simpa using w
          subst this
          rw [P7] at x2; rw [P8] at x3
          exact absurd ⟨x2, x3⟩ hj
      · rintro ⟨x, x1, x2⟩
        exact ⟨x, by simp [x1], x2⟩
    have frE : m_fr (fun k => mE k || hm3 k) σ σ2 := mf_mono fr2 (fun k hk => by simp only [Bool.or_eq_false_iff] at hk; exact hk.1)
    have done : mm_set_209 N t kt k ty v σ = some (1, σ2) → HM σ2 (es t ++ [e]) t → ∃ e τ ps', mm_set_209 N t kt k ty v σ = some (1, τ) ∧ (∀ s, s ∈ ts → e ∉ es s) ∧ MM τ ts (fU es t (es t ++ [e])) ps' ∧ (∀ x, 0 ≤ x → sI τ 32 x = if x = e then kt else sI σ 32 x) ∧ (∀ x, 0 ≤ x → sJ τ 33 x = if x = e then k else sJ σ 33 x) ∧ (∀ x, 0 ≤ x → sI τ 34 x = if x = e then ty else sI σ 34 x) ∧ (∀ x, 0 ≤ x → sJ τ 35 x = if x = e then v else sJ σ 35 x) ∧ sF τ 41 = sF σ 41 + 1 ∧ m_fr (fun k => mE k || hm3 k) σ τ := by
      intro ex2 hm
      refine ⟨e, σ2, _, ex2, P3, ⟨P4, fun s hs' => ?_, P5⟩, fun x x0 => by rw [th 32 x (by decide) (by decide) (by decide) (by decide)]; exact x32 x x0, fun x x0 => by rw [thJ 33 x (by decide) (by decide)]; exact x33 x x0, fun x x0 => by rw [th 34 x (by decide) (by decide) (by decide) (by decide)]; exact x34 x x0, fun x x0 => by rw [thJ 35 x (by decide) (by decide)]; exact x35 x x0, by rw [← h2]; simp only [sF_pi, sF_pl, sF_ai, sF_al, sG_pi, sG_pl, sG_ai, sG_al, sI_pi, sI_pl, sI_al, sI_ai1, sI_ai2, sJ_pi, sJ_pl, sJ_ai, sJ_al1, sJ_al2, Nat.reduceEqDiff, if_true, if_false, ne_eq, not_false_eq_true, ite_true, ite_false], frE⟩
      by_cases c : s = t
      · subst c; rw [fU_s]; exact hm
      · exact oth s hs' c
    obtain ⟨a1, a2, a3, a4, a5, a6, a7, a8⟩ := B t ht
    have pre : mm_set_209 N t kt k ty v σ = (if kt = 2 then (if lg_cmp k 1 < 0 then some (1, σ2) else (if 0 < lg_cmp k (Int32.toInt64 (sI σ 25 t)) then some (1, σ2) else bd (mm_hole N σ2 t k.toInt32 0) (fun z => some (1, z)))) else some (1, σ2)) := by
      have g23 : sI (md_ai s16 22 t.toNatClampNeg e) 23 t = sI σ 23 t := by rw [sI_ai1 (by decide), mf_I fr16 rfl, mf_I fr15 rfl]
      have g41 : sF (md_ai (md_ai s16 22 t.toNatClampNeg e) 23 t.toNatClampNeg (sI σ 23 t + 1)) 41 = sF σ 41 := by rw [sF_ai, sF_ai, mf_F fr16 rfl, mf_F fr15 rfl]
      rw [ex, mm_set_363, gd_in (by decide) t0 t1, lt, gd_in (by decide) t0 t1, gd_in (by decide) t0 t1, lt, sI_fold, g23, lt, sF_fold, g41, h2, gd_in (by decide) t0 t1, sI_fold, i25]
      rfl
    have noK : (¬ (kt = 2 ∧ 1 ≤ k ∧ k ≤ Int32.toInt64 (sI σ 25 t))) → HM σ2 (es t ++ [e]) t := by
      intro hno
      have nk : ∀ j, 1 ≤ j → j ≤ sI σ 25 t → (mlv σ2 (es t ++ [e]) j ↔ mlv σ (es t) j) := fun j j0 j1 => lvt j (fun q => hno ⟨q.1, by rw [q.2, show (1 : Int64) = Int32.toInt64 1 from rfl, le64]; exact j0, by rw [q.2, le64]; exact j1⟩)
      simp only [HM]
      rw [i25, i27, imh]
      refine ⟨a1, a2, a3, a4, a5, a6, fun j j0 j1 j2 => ?_, fun i i0 i1 i2 => ?_⟩
      · rw [nk j j0 j1]; exact a7 j j0 j1 j2
      · have := a5 i i0 i1
        rw [nk _ this.1 this.2]; exact a8 i i0 i1 i2
    by_cases d : kt = 2
    · rw [if_pos d] at pre
      by_cases f : k < 1
      · exact done (by rw [pre, if_pos (lgc_lt.mpr f)]) (noK (fun q => by have := q.2.1; lia))
      · rw [if_neg (fun q => f (lgc_lt.mp q))] at pre
        by_cases g : Int32.toInt64 (sI σ 25 t) < k
        · exact done (by rw [pre, if_pos (lgc_gt.mpr g)]) (noK (fun q => by have := q.2.2; lia))
        · rw [if_neg (fun q => g (lgc_gt.mp q))] at pre
          have kr : Int32.toInt64 1 ≤ k ∧ k ≤ Int32.toInt64 (sI σ 25 t) := ⟨by show (1 : Int64) ≤ k; lia, by lia⟩
          obtain ⟨bk, k1, k2⟩ := back64 kr.1 kr.2
          generalize hj : k.toInt32 = j at *
          have nk : ∀ i, i ≠ j → (mlv σ2 (es t ++ [e]) i ↔ mlv σ (es t) i) := fun i ij => lvt i (fun q => ij (ll_inj (by rw [← q.2, bk])))
          have nl : ¬ mlv σ (es t) j := fun ⟨x, x1, x2, x3, x4⟩ => no x x1 (by rw [x2, x3, d, bk]; exact mkeq_rfl)
          have He : HMe σ2 (es t ++ [e]) (mh σ2 t) (sI σ2 27 t) (sI σ2 25 t) j := by
            rw [i25, i27, imh]
            exact ⟨a1, a2, a3, a4, a5, a6, fun i i0 i1 i2 => by rw [nk i i2]; exact a7 i i0 i1 (by lia), fun i i0 i1 i2 => by rw [nk _ i2]; exact a8 i i0 i1 (by have := a5 i i0 i1; lia)⟩
          obtain ⟨τ, r1, r2, r3, r4⟩ := hole_m hN (op := 0) t0 t1 He k1 (by rw [i25]; exact k2) (fun _ => by
            refine ⟨⟨e, by simp, by rw [P7]; exact d, by rw [P8]; exact bk.symm, by rw [P9]; lia⟩, ?_⟩
            rw [i27, imh]
            rcases a7 j k1 k2 (by lia) with w | w
            · exact absurd w nl
            · exact w) (fun q => absurd rfl q)
          refine ⟨e, τ, _, ?_, P3, ⟨mf_FM r4 ⟨rfl, rfl, rfl, rfl, rfl⟩ ⟨rfl, rfl, rfl, rfl, rfl⟩ P4, fun s hs' => ?_, mf_EM r4 ⟨rfl, rfl, rfl, rfl, rfl, rfl, rfl, rfl, rfl⟩ P5⟩, fun x x0 => by rw [mf_I r4 rfl, th 32 x (by decide) (by decide) (by decide) (by decide)]; exact x32 x x0, fun x x0 => by rw [mf_J r4 rfl, thJ 33 x (by decide) (by decide)]; exact x33 x x0, fun x x0 => by rw [mf_I r4 rfl, th 34 x (by decide) (by decide) (by decide) (by decide)]; exact x34 x x0, fun x x0 => by rw [mf_J r4 rfl, thJ 35 x (by decide) (by decide)]; exact x35 x x0, by rw [mf_F r4 rfl, ← h2]; simp only [sF_pi, sF_pl, sF_ai, sF_al, sG_pi, sG_pl, sG_ai, sG_al, sI_pi, sI_pl, sI_al, sI_ai1, sI_ai2, sJ_pi, sJ_pl, sJ_ai, sJ_al1, sJ_al2, Nat.reduceEqDiff, if_true, if_false, ne_eq, not_false_eq_true, ite_true, ite_false], mf_tr frE (mf_mono r4 (fun k hk => by simp only [Bool.or_eq_false_iff] at hk; exact hk.2))⟩
          · rw [pre, r1]; rfl
          · by_cases c : s = t
            · subst c; rw [fU_s]; exact r2
            · obtain ⟨s0, s1, _⟩ := E2 s hs'
              obtain ⟨o1, o2, o3⟩ := r3 s s0 s1 c
              have h := oth s hs' c
              simp only [HM] at h ⊢
              rw [o1, o2]
              exact hmc (hm_mv (fun k => mf_mlv r4 rfl rfl rfl) h) (fun i i0 i1 => o3 i i0 (by have := h.2.2.2.1; lia))
    · exact done (by rw [pre, if_neg d]) (noK (fun q => d q.1))
  rcases lst with l | ⟨l1, l2, l3⟩
  · refine fin (md_ai s15 21 t.toNatClampNeg e) (mf_ai mf_rfl rfl) (by rw [sI_ai1 (by decide), x36 e e0, if_pos rfl]) (fun x x0 x1 _ => by rw [sI_ai1 (by decide), x36 x x0, if_neg x1]) (fun q => absurd l q) (fun s s0 => ?_) ?_
    · rw [sI_ai t0 s0, mf_I fr15 rfl]
      simp only [true_and, l, and_true]
    · rw [code1, if_neg (by rw [l]; decide), gd_in (by decide) t0 t1]
  · refine fin (md_ai s15 36 (sI σ 22 t).toNatClampNeg e) (mf_ai mf_rfl rfl) (by rw [sI_ai l1 e0, if_neg (fun q => l3 q.2.symm), x36 e e0, if_pos rfl]) (fun x x0 x1 x2 => by rw [sI_ai l1 x0, if_neg (fun q => x2 q.2), x36 x x0, if_neg x1]) (fun _ => by rw [sI_ai2]) (fun s s0 => ?_) ?_
    · rw [sI_ai1 (by decide), mf_I fr15 rfl, if_neg (fun q => by have := q.2; lia)]
    · rw [code1, if_pos l1, gd_in (by decide) t0 t1, gd_in (by decide) l1 l2]
def keepM (σ : mS) (l : List Int32) : List Int32 := if 8 ≤ (l.filter (fun e => !alm σ e)).length ∧ (l.filter (alm σ)).length ≤ (l.filter (fun e => !alm σ e)).length then l.filter (alm σ) else l
def mP (k : Nat) : Bool := mY k || (mZ k || (mE k || hm3 k))
theorem set_m {N : Nat} (hN : BIG ≤ N) {σ : mS} {ts : List Int32} {es ps : Int32 → List Int32} {t kt ty : Int32} {k v : Int64} (M : MM σ ts es ps) (ht : t ∈ ts) (hk : mk_ok σ kt k) (g0 : 0 ≤ ty) (g1 : ty ≤ 8) :
    (∃ e τ, e ∈ es t ∧ mk_eq σ (sI σ 32 e) (sJ σ 33 e) kt k ∧ mm_set N σ t kt k ty v = some (1, τ) ∧ MM τ ts es ps ∧ (∀ x, 0 ≤ x → sI τ 34 x = if x = e then ty else sI σ 34 x) ∧ (∀ x, 0 ≤ x → sJ τ 35 x = if x = e then v else sJ σ 35 x) ∧ m_fr mZ σ τ)
    ∨ ((∀ x, x ∈ es t → ¬ mk_eq σ (sI σ 32 x) (sJ σ 33 x) kt k) ∧ ty = 0 ∧ mm_set N σ t kt k ty v = some (1, σ))
    ∨ ((∀ x, x ∈ es t → ¬ mk_eq σ (sI σ 32 x) (sJ σ 33 x) kt k) ∧ ty ≠ 0 ∧ (sF σ 41).toInt - ((es t).length - (keepM σ (es t)).length : Int) = 20000 ∧ ∃ τ ps', mm_set N σ t kt k ty v = bd (mm_breakOff N τ 3) (fun z => some (0, z)) ∧ MM τ ts (fU es t (keepM σ (es t))) ps' ∧ m_fr mY σ τ)
    ∨ ((∀ x, x ∈ es t → ¬ mk_eq σ (sI σ 32 x) (sJ σ 33 x) kt k) ∧ ty ≠ 0 ∧ (sF σ 41).toInt - ((es t).length - (keepM σ (es t)).length : Int) ≠ 20000 ∧ ∃ e τ ps', mm_set N σ t kt k ty v = some (1, τ) ∧ e ∉ keepM σ (es t) ∧ MM τ ts (fU es t (keepM σ (es t) ++ [e])) ps' ∧ (∀ x, 0 ≤ x → sI τ 32 x = if x = e then kt else sI σ 32 x) ∧ (∀ x, 0 ≤ x → sJ τ 33 x = if x = e then k else sJ σ 33 x) ∧ (∀ x, 0 ≤ x → sI τ 34 x = if x = e then ty else sI σ 34 x) ∧ (∀ x, 0 ≤ x → sJ τ 35 x = if x = e then v else sJ σ 35 x) ∧ (sF τ 41).toInt = (sF σ 41).toInt - ((es t).length - (keepM σ (es t)).length : Int) + 1 ∧ m_fr mP σ τ) := by
  obtain ⟨r, f1, f2⟩ := find_m hN M.1 ht hk
  obtain ⟨t0, t1, _, _, _, w4, w5⟩ := M.2.2.2.1 t ht
  rcases f2 with ⟨a, b⟩ | ⟨a, b⟩
  · left
    obtain ⟨τ, q1, q2, q3, q4, q5⟩ := set_old hN (v := v) M ht a b g0 g1 f1
    exact ⟨r, τ, a, b, q1, q2, q3, q4, q5⟩
  · right
    have rn : r < 0 := by rw [a]; decide
    by_cases c : ty = 0
    · left
      refine ⟨b, c, ?_⟩
      rw [mm_set, f1]
      simp only [bd]
      rw [if_pos rn, if_pos c]
      rfl
    · right
      have g0' : 0 < ty := by lia
      have brk : ∀ ρ : mS, sF ρ 40 = 0 → mm_set_209 N t kt k ty v ρ = bd (mm_breakOff N ρ 3) (fun z => some (0, z)) := fun ρ h => by
        rw [mm_set_209, if_pos]
        · rfl
        · exact h
      have tot : ∀ (ρ : mS) (es' : Int32 → List Int32) (ps' : Int32 → List Int32), MM ρ ts es' ps' → (sF ρ 40 = 0 ↔ (sF ρ 41).toInt = 20000) := fun ρ es' ps' m => by
        have e7 := m.2.2.2.2.2.2.2.2.1
        have e8 := m.2.2.2.2.2.2.2.2.2
        constructor
        · intro q
          rw [q] at e7
          have z : (0 : Int32).toInt = 0 := rfl
          omega
        · intro q
          rw [tI_eq]
          have z : (0 : Int32).toInt = 0 := rfl
          omega
      by_cases d : 8 ≤ ((es t).filter (fun e => !alm σ e)).length ∧ ((es t).filter (alm σ)).length ≤ ((es t).filter (fun e => !alm σ e)).length
      · have kl : keepM σ (es t) = (es t).filter (alm σ) := if_pos d
        obtain ⟨τ, ps', u1, u2, u3, u4⟩ := bury_m hN M ht
        have fl := flt_len (p := alm σ) (es t)
        have pre2 : mm_set N σ t kt k ty v = mm_set_209 N t kt k ty v τ := by
          have c1 : ¬ sI σ 24 t < 8 := by
            rw [tI_lt, w5]
            have z : (8 : Int32).toInt = 8 := rfl
            omega
          have c2 : ¬ sI σ 24 t < sI σ 23 t := by rw [tI_lt, w5, w4]; omega
          rw [mm_set, f1]
          simp only [bd]
          rw [if_pos rn, if_neg c, gd_in (by decide) t0 t1, sI_fold, if_neg c1, gd_in (by decide) t0 t1, gd_in (by decide) t0 t1, sI_fold, if_neg c2, u1]
        have cnt : (sF τ 41).toInt = (sF σ 41).toInt - ((es t).length - (keepM σ (es t)).length : Int) := by rw [u3, kl]; omega
        rw [← kl] at u2
        by_cases f : sF τ 40 = 0
        · left
          exact ⟨b, c, by rw [← cnt]; exact (tot τ _ _ u2).mp f, τ, ps', by rw [pre2]; exact brk τ f, u2, u4⟩
        · right
          obtain ⟨A1, A2⟩ := mf_M u4 ⟨rfl, rfl, rfl, rfl, rfl⟩
          have g : ∀ x, sI τ 32 x = sI σ 32 x ∧ sJ τ 33 x = sJ σ 33 x ∧ sI τ 34 x = sI σ 34 x ∧ sJ τ 35 x = sJ σ 35 x := fun x => ⟨mf_I u4 rfl, mf_J u4 rfl, mf_I u4 rfl, mf_J u4 rfl⟩
          obtain ⟨e, υ, ps2, v2, v1, v3, v4, v5, v6, v7, v8, v9⟩ := set_nw hN (v := v) u2 ht (by simp only [mk_ok, A1]; exact hk) (fun x hx q => by
            rw [fU_s, kl] at hx
            simp only [mk_eq, A2, (g x).1, (g x).2.1] at q
            exact b x (List.mem_filter.mp hx).1 q) g0' g1 f
          rw [fU_s, fU_fU] at v3
          have ve := v1 t ht
          rw [fU_s] at ve
          refine ⟨b, c, fun q => f ((tot τ _ _ u2).mpr (by rw [cnt]; exact q)), e, υ, ps2, by rw [pre2]; exact v2, ve, v3, fun x x0 => by rw [v4 x x0, (g x).1], fun x x0 => by rw [v5 x x0, (g x).2.1], fun x x0 => by rw [v6 x x0, (g x).2.2.1], fun x x0 => by rw [v7 x x0, (g x).2.2.2], ?_, mf_tr (mf_mono u4 (fun k hk => ?_)) (mf_mono v9 (fun k hk => ?_))⟩
          · have r := tI_rng (sF τ 41)
            have e7 := u2.2.2.2.2.2.2.2.2.1
            have e8 := u2.2.2.2.2.2.2.2.2.2
            have e3 := u2.2.2.2.2.1
            rw [tI_le] at e3
            have z : (0 : Int32).toInt = 0 := rfl
            rw [v8, tI_add, cnt] <;> simp only [show (1 : Int32).toInt = 1 from rfl] <;> omega
          · simp only [mP, Bool.or_eq_false_iff] at hk; exact hk.1
          · simp only [mP, Bool.or_eq_false_iff] at hk ⊢; exact hk.2.2
      · have kl : keepM σ (es t) = es t := if_neg d
        have pre2 : mm_set N σ t kt k ty v = mm_set_209 N t kt k ty v σ := by
          rw [mm_set, f1]
          simp only [bd]
          rw [if_pos rn, if_neg c, gd_in (by decide) t0 t1, sI_fold]
          by_cases c1 : sI σ 24 t < 8
          · rw [if_pos c1]
          · have c2 : sI σ 24 t < sI σ 23 t := by
              rw [tI_lt, w5, w4]
              rw [tI_lt, w5] at c1
              have z : (8 : Int32).toInt = 8 := rfl
              omega
            rw [if_neg c1, gd_in (by decide) t0 t1, gd_in (by decide) t0 t1, sI_fold, if_pos c2]
        by_cases f : sF σ 40 = 0
        · left
          have := (tot σ _ _ M).mp f
          exact ⟨b, c, by rw [kl]; omega, σ, ps, by rw [pre2]; exact brk σ f, by rw [kl, fU_id]; exact M, mf_rfl⟩
        · right
          obtain ⟨e, υ, ps2, v2, v1, v3, v4, v5, v6, v7, v8, v9⟩ := set_nw hN (v := v) M ht hk b g0' g1 f
          refine ⟨b, c, fun q => f ((tot σ _ _ M).mpr (by rw [kl] at q; omega)), e, υ, ps2, by rw [pre2]; exact v2, by rw [kl]; exact v1 t ht, by rw [kl]; exact v3, v4, v5, v6, v7, ?_, mf_mono v9 (fun k hk => ?_)⟩
          · have r := tI_rng (sF σ 41)
            have e7 := M.2.2.2.2.2.2.2.2.1
            have e8 := M.2.2.2.2.2.2.2.2.2
            have e3 := M.2.2.2.2.1
            rw [tI_le] at e3
            have z : (0 : Int32).toInt = 0 := rfl
            rw [v8, kl, tI_add] <;> simp only [show (1 : Int32).toInt = 1 from rfl] <;> omega
          · simp only [mP, Bool.or_eq_false_iff] at hk ⊢; exact hk.2.2
