/-! LAYER 2: the reference's tables: bury -/
def alm (σ : mS) (e : Int32) : Bool := decide (sI σ 34 e ≠ 0)
def mY (k : Nat) : Bool := [21, 22, 24, 36, 37, 38, 39, 40, 41].contains k
/-- the pile of free entries: c places of fs, each in range, none twice, none among l -/
def FE (fs : Int32 → Int32) (c : Int32) (l : List Int32) : Prop := 0 ≤ c ∧ c ≤ 20000 ∧ (∀ i, 0 ≤ i → i < c → 0 ≤ fs i ∧ fs i < 20000 ∧ fs i ∉ l) ∧ (∀ i j, 0 ≤ i → i < j → j < c → fs i ≠ fs j)
def bm_post (σ τ : mS) (ts : List Int32) (es : Int32 → List Int32) (t : Int32) (L D : List Int32) : Prop := ∃ ps, FM τ ts (fU es t L) ps ∧ seg (sI τ 36) (sI τ 21 t) L (-1) ∧ sI τ 22 t = L.getLastD (-1) ∧ sI τ 24 t = 0 ∧ FE (sI τ 39) (sF τ 40) L ∧ (∀ i, 0 ≤ i → i < sF τ 40 → (i < sF σ 40 ∧ sI τ 39 i = sI σ 39 i) ∨ sI τ 39 i ∈ D) ∧ (sF τ 40).toInt = (sF σ 40).toInt + D.length ∧ (sF τ 41).toInt = (sF σ 41).toInt - D.length ∧ m_fr mY σ τ
theorem mbury_lp {N : Nat} (hN : BIG ≤ N) {ts : List Int32} {es : Int32 → List Int32} {t : Int32} (ht : t ∈ ts) (t0 : 0 ≤ t) (t1 : t < 3000) : ∀ (R : List Int32) (n : Nat) (σ : mS) (ps : Int32 → List Int32) (K : List Int32) (v : Int32), R.length < n → FM σ ts (fU es t (K ++ R)) ps → (∀ s, s ∈ ts → s ≠ t → ∀ x, x ∈ K ++ R → x ∉ es s) → seg (sI σ 36) (sI σ 21 t) K (-1) → seg (sI σ 36) v R (-1) → (K ++ R).Nodup → FE (sI σ 39) (sF σ 40) (K ++ R) → (sF σ 40).toInt + (R.filter (fun e => !alm σ e)).length ≤ 20000 → 0 ≤ (sF σ 41).toInt - (R.filter (fun e => !alm σ e)).length → ∃ τ, mm_bury_16 N n t v (K.getLastD (-1)) σ = some τ ∧ bm_post σ τ ts es t (K ++ R.filter (alm σ)) (R.filter (fun e => !alm σ e)) ∧ (∀ x, 0 ≤ x → x ∉ K ++ R → sI τ 36 x = sI σ 36 x) ∧ (∀ s, 0 ≤ s → s ≠ t → sI τ 21 s = sI σ 21 s ∧ sI τ 22 s = sI σ 22 s ∧ sI τ 24 s = sI σ 24 s)
  | [], n, σ, ps, K, v, hn, F, dj, s1, s2, nd, fe, _, _ => by
    obtain ⟨n, rfl⟩ : ∃ j, n = j + 1 := ⟨n - 1, by simp at hn; omega⟩
    have hv : v = -1 := s2
    subst hv
    have fr : m_fr (fun k => [22, 24].contains k) σ (md_ai (md_ai σ 22 t.toNatClampNeg (K.getLastD (-1))) 24 t.toNatClampNeg 0) := mf_ai (mf_ai mf_rfl rfl) rfl
    have i36 : sI (md_ai (md_ai σ 22 t.toNatClampNeg (K.getLastD (-1))) 24 t.toNatClampNeg 0) 36 = sI σ 36 := by funext m; exact mf_I fr rfl
    have i39 : sI (md_ai (md_ai σ 22 t.toNatClampNeg (K.getLastD (-1))) 24 t.toNatClampNeg 0) 39 = sI σ 39 := by funext m; exact mf_I fr rfl
    rw [List.filter_nil, List.append_nil]
    rw [List.append_nil] at F fe
    refine ⟨_, ?_, ⟨ps, mf_FM fr ⟨rfl, rfl, rfl, rfl, rfl⟩ ⟨rfl, rfl, rfl, rfl, rfl⟩ F, ?_, ?_, by rw [sI_ai2], ?_, fun i i0 i1 => ?_, ?_, ?_, mf_ai (mf_ai mf_rfl rfl) rfl⟩, fun x _ _ => by rw [i36], fun s s0 s1 => ⟨?_, ?_, ?_⟩⟩
    · clear F dj fe
      rw [mm_bury_16]
      simp (disch := lia) only [lt, gd_in, if_pos, if_neg, ↓reduceIte, gd_z0, gd_z1, gd_tt, sF_fold, sG_fold, sI_fold, sJ_fold]
    · rw [i36, mf_I fr rfl]; exact s1
    · rw [sI_ai1 (by decide), sI_ai2]
    · rw [i39, mf_F fr rfl]; exact fe
    · rw [mf_F fr rfl] at i1; rw [i39]; exact .inl ⟨i1, rfl⟩
    · rw [mf_F fr rfl]; simp
    · rw [mf_F fr rfl]; simp
    · exact mf_I fr rfl
    · rw [sI_ai1 (by decide), sI_ai t0 s0, if_neg (fun q => s1 q.2)]
    · rw [sI_ai t0 s0, if_neg (fun q => s1 q.2), sI_ai1 (by decide)]
  | e :: R, n, σ, ps, K, v, hn, F, dj, s1, s2, nd, fe, cn, cm => by
    obtain ⟨n, rfl⟩ : ∃ j, n = j + 1 := ⟨n - 1, by simp at hn; omega⟩
    obtain ⟨hv, s2'⟩ := s2
    subst hv
    have me : v ∈ fU es t (K ++ v :: R) t := by rw [fU_s]; simp
    obtain ⟨e0, e1, _, _⟩ := F.1 t ht v me
    have vKR : v ∉ K ++ R := fun q => by
      rw [List.nodup_append] at nd
      rcases List.mem_append.mp q with w | w
      · exact nd.2.2 v w v (by simp) rfl
      · exact (List.nodup_cons.mp nd.2.1).1 w
    have vK : v ∉ K := fun q => vKR (by simp [q])
    have vR : v ∉ R := fun q => vKR (by simp [q])
    have vneg : ¬ v < 0 := by lia
    by_cases c : sI σ 34 v = 0
    · have hal : alm σ v = false := by simp [alm, c]
      have fl : (v :: R).filter (alm σ) = R.filter (alm σ) := by simp [List.filter_cons, hal]
      have fd' : (v :: R).filter (fun e => !alm σ e) = v :: R.filter (fun e => !alm σ e) := by simp [List.filter_cons, hal]
      rw [fd', List.length_cons] at cn cm
      obtain ⟨ρ, ps', r1, r2, r6⟩ := unchain_m hN F ht (e := v) (A := K) (B := R) (by rw [fU_s]) (fun s hs hst q => by rw [fU_o hst] at q; exact dj s hs hst v (by simp) q) vKR
      rw [fU_fU] at r2
      obtain ⟨f1, f2, f3, f4⟩ := fe
      have r40 : sF ρ 40 = sF σ 40 := mf_F r6 rfl
      have r41 : sF ρ 41 = sF σ 41 := mf_F r6 rfl
      have c40 : sF σ 40 < 20000 := by
        rw [tI_lt]
        have z : (20000 : Int32).toInt = 20000 := rfl
        omega
      generalize hτ : md_pi (md_pi (md_ai ρ 39 (sF σ 40).toNatClampNeg v) 40 (sF σ 40 + 1)) 41 (sF σ 41 - 1) = τ
      have fr : m_fr (fun k => [37, 38, 39, 40, 41].contains k) σ τ := by
        rw [← hτ]
        refine mf_pi (mf_pi (mf_ai (mf_mono r6 (fun k hk => ?_)) rfl) rfl) rfl
        simp only [hc2, List.contains_cons, List.contains_nil, Bool.or_eq_false_iff] at hk ⊢
        exact ⟨hk.1, hk.2.1, trivial⟩
      have t39 : ∀ i, 0 ≤ i → sI τ 39 i = if i = sF σ 40 then v else sI σ 39 i := fun i i0 => by
        rw [← hτ, sI_pi, sI_pi, sI_ai f1 i0, mf_I r6 rfl]
        simp only [true_and]
      have t40 : sF τ 40 = sF σ 40 + 1 := by rw [← hτ]; simp only [sF_pi, sF_pl, sF_ai, sF_al, sG_pi, sG_pl, sG_ai, sG_al, sI_pi, sI_pl, sI_al, sI_ai1, sI_ai2, sJ_pi, sJ_pl, sJ_ai, sJ_al1, sJ_al2, Nat.reduceEqDiff, if_true, if_false, ne_eq, not_false_eq_true, ite_true, ite_false]
      have t41 : sF τ 41 = sF σ 41 - 1 := by rw [← hτ]; simp only [sF_pi, sF_pl, sF_ai, sF_al, sG_pi, sG_pl, sG_ai, sG_al, sI_pi, sI_pl, sI_al, sI_ai1, sI_ai2, sJ_pi, sJ_pl, sJ_ai, sJ_al1, sJ_al2, Nat.reduceEqDiff, if_true, if_false, ne_eq, not_false_eq_true, ite_true, ite_false]
      have n40 : (sF τ 40).toInt = (sF σ 40).toInt + 1 := by
        have := tI_rng (sF σ 40)
        rw [t40, tI_add] <;> simp only [show (1 : Int32).toInt = 1 from rfl] <;> omega
      have n41 : (sF τ 41).toInt = (sF σ 41).toInt - 1 := by
        have := tI_rng (sF σ 41)
        rw [t41, tI_sub] <;> simp only [show (1 : Int32).toInt = 1 from rfl] <;> omega
      have F2 : FM τ ts (fU es t (K ++ R)) ps' := by
        rw [← hτ]
        exact mf_FM (mf_pi (mf_pi (mf_ai mf_rfl rfl) rfl) rfl : m_fr (fun k => [39, 40, 41].contains k) ρ _) ⟨rfl, rfl, rfl, rfl, rfl⟩ ⟨rfl, rfl, rfl, rfl, rfl⟩ r2
      have al : alm τ = alm σ := by funext x; simp only [alm]; rw [mf_I fr rfl]
      have i36 : sI τ 36 = sI σ 36 := by funext m; exact mf_I fr rfl
      have i21 : ∀ s, sI τ 21 s = sI σ 21 s := fun s => mf_I fr rfl
      obtain ⟨υ, q1, ⟨ps2, z1, z2, z3, z4, z5, z6, z7, z8, z9⟩, q3, q4⟩ := mbury_lp hN ht t0 t1 R n τ ps' K (sI σ 36 v) (by simp at hn; omega) F2 (fun s hs hst x hx => dj s hs hst x (by rcases List.mem_append.mp hx with w | w <;> simp [w])) (by rw [i36, i21]; exact s1) (by rw [i36]; exact s2') (by
        rw [List.nodup_append] at nd ⊢
        exact ⟨nd.1, (List.nodup_cons.mp nd.2.1).2, fun a ha b hb => nd.2.2 a ha b (List.mem_cons_of_mem _ hb)⟩) (by
        refine ⟨by rw [t40]; lia, by rw [t40]; lia, fun i i0 i1 => ?_, fun i j i0 ij j1 => ?_⟩
        · rw [t40] at i1
          rw [t39 i i0]
          by_cases w : i = sF σ 40
          · rw [if_pos w]; exact ⟨e0, e1, vKR⟩
          · rw [if_neg w]
            obtain ⟨g1, g2, g3⟩ := f3 i i0 (by lia)
            exact ⟨g1, g2, fun q => g3 (by rcases List.mem_append.mp q with w | w <;> simp [w])⟩
        · rw [t40] at j1
          rw [t39 i i0, t39 j (by lia), if_neg (by lia)]
          by_cases w : j = sF σ 40
          · rw [if_pos w]
            obtain ⟨g1, g2, g3⟩ := f3 i i0 (by lia)
            exact fun q => g3 (by rw [q]; simp)
          · rw [if_neg w]; exact f4 i j i0 ij (by lia)) (by rw [al, n40]; omega) (by rw [al, n41]; omega)
      rw [al] at z1 z2 z3 z5 z6 z7 z8
      refine ⟨υ, ?_, ⟨ps2, by rw [fl]; exact z1, by rw [fl]; exact z2, by rw [fl]; exact z3, z4, by rw [fl]; exact z5, fun i i0 i1 => ?_, ?_, ?_, mf_tr (mf_mono fr (fun k hk => ?_)) z9⟩, fun x x0 x1 => ?_, fun s s0 s1 => ?_⟩
      · have pre : mm_bury_16 N (n + 1) t v (K.getLastD (-1)) σ = bd (mm_unchain N σ v) (fun z7 => gd (inB (z7.1 40) 20000) (lt (md_ai z7 39 (z7.1 40).toNatClampNeg v) (fun σ8 => lt (md_pi σ8 40 ((σ8.1 40) + 1)) (fun σ9 => lt (md_pi σ9 41 ((σ9.1 41) - 1)) (fun σ10 => mm_bury_105 N (mm_bury_16 N n) t (K.getLastD (-1)) (sI σ 36 v) σ10))))) := by
          rw [mm_bury_16, if_neg vneg, gd_in (by decide) e0 e1, lt, gd_in (by decide) e0 e1, sI_fold, if_pos c]
          rfl
        rw [pre, r1]
        simp only [bd, sF_fold]
        rw [r40, gd_in (by decide) f1 c40]
        simp only [lt, mm_bury_105, sF_pi, sF_pl, sF_ai, sF_al, sG_pi, sG_pl, sG_ai, sG_al, sI_pi, sI_pl, sI_al, sI_ai1, sI_ai2, sJ_pi, sJ_pl, sJ_ai, sJ_al1, sJ_al2, Nat.reduceEqDiff, if_true, if_false, ne_eq, not_false_eq_true, ite_true, ite_false, sF_fold, r40, r41, hτ]
        exact q1
      · rw [fd']
        rcases z6 i i0 i1 with ⟨w1, w2⟩ | w
        · rw [t40] at w1
          rw [w2, t39 i i0]
          by_cases w : i = sF σ 40
          · rw [if_pos w]; exact .inr (by simp)
          · rw [if_neg w]; exact .inl ⟨by lia, rfl⟩
        · exact .inr (by simp [w])
      · rw [fd', List.length_cons, z7, n40]; omega
      · rw [fd', List.length_cons, z8, n41]; omega
      · simp only [mY, List.contains_cons, List.contains_nil, Bool.or_eq_false_iff] at hk ⊢
        obtain ⟨q1, q2, q3, q4, q5⟩ := hk
        exact q5
      · rw [q3 x x0 (fun q => x1 (by rcases List.mem_append.mp q with w | w <;> simp [w])), i36]
      · rw [(q4 s s0 s1).1, (q4 s s0 s1).2.1, (q4 s s0 s1).2.2, i21]
        exact ⟨rfl, mf_I fr rfl, mf_I fr rfl⟩
    · have hal : alm σ v = true := by simp [alm, c]
      have fl : (v :: R).filter (alm σ) = v :: R.filter (alm σ) := by simp [List.filter_cons, hal]
      have fd' : (v :: R).filter (fun e => !alm σ e) = R.filter (fun e => !alm σ e) := by simp [List.filter_cons, hal]
      rw [fd'] at cn cm
      have go : ∀ τ : mS, m_fr (fun k => [21, 36].contains k) σ τ → (∀ s, 0 ≤ s → s ≠ t → sI τ 21 s = sI σ 21 s) → (∀ x, 0 ≤ x → x ∉ K → x ≠ v → sI τ 36 x = sI σ 36 x) → seg (sI τ 36) (sI τ 21 t) (K ++ [v]) (-1) → ∃ υ, mm_bury_16 N n t (sI σ 36 v) v τ = some υ ∧ bm_post σ υ ts es t (K ++ (v :: R).filter (alm σ)) ((v :: R).filter (fun e => !alm σ e)) ∧ (∀ x, 0 ≤ x → x ∉ K ++ v :: R → sI υ 36 x = sI σ 36 x) ∧ (∀ s, 0 ≤ s → s ≠ t → sI υ 21 s = sI σ 21 s ∧ sI υ 22 s = sI σ 22 s ∧ sI υ 24 s = sI σ 24 s) := by
        intro τ fr hoth h36 sg
        have alf : alm τ = alm σ := by funext x; simp only [alm]; rw [mf_I fr rfl]
        have eqv : K ++ [v] ++ R = K ++ v :: R := by simp
        have F' : FM τ ts (fU es t (K ++ [v] ++ R)) ps := by
          rw [eqv]; exact mf_FM fr ⟨rfl, rfl, rfl, rfl, rfl⟩ ⟨rfl, rfl, rfl, rfl, rfl⟩ F
        have rK : ∀ x, x ∈ R → x ∉ K := fun x hx q => (List.nodup_append.mp nd).2.2 x q x (List.mem_cons_of_mem _ hx) rfl
        have pR : ∀ x, x ∈ R → 0 ≤ x := fun x hx => (F.1 t ht x (by rw [fU_s]; simp [hx])).1
        have i39 : sI τ 39 = sI σ 39 := by funext m; exact mf_I fr rfl
        obtain ⟨υ, q1, ⟨ps2, z1, z2, z3, z4, z5, z6, z7, z8, z9⟩, q3, q4⟩ := mbury_lp hN ht t0 t1 R n τ ps (K ++ [v]) (sI σ 36 v) (by simp at hn; omega) F' (fun s hs hst x hx => dj s hs hst x (by rw [← eqv]; exact hx)) sg (seg_congr s2' (fun x hx => h36 x (pR x hx) (rK x hx) (fun w => vR (by rw [← w]; exact hx)))) (by rw [eqv]; exact nd) (by rw [eqv, i39, mf_F fr rfl]; exact fe) (by rw [alf, mf_F fr rfl]; exact cn) (by rw [alf, mf_F fr rfl]; exact cm)
        rw [alf] at z1 z2 z3 z5 z6 z7 z8
        have e2 : K ++ [v] ++ R.filter (alm σ) = K ++ (v :: R).filter (alm σ) := by rw [fl]; simp
        rw [e2] at z1 z2 z3 z5
        rw [mf_F fr rfl, i39] at z6
        have lv : (K ++ [v]).getLastD (-1) = v := by simp
        rw [lv] at q1
        refine ⟨υ, q1, ⟨ps2, z1, z2, z3, z4, z5, by rw [fd']; exact z6, by rw [fd', z7, mf_F fr rfl], by rw [fd', z8, mf_F fr rfl], mf_tr (mf_mono fr (fun k hk => ?_)) z9⟩, fun x x0 x1 => ?_, fun s s0 s1 => ?_⟩
        · simp only [mY, List.contains_cons, List.contains_nil, Bool.or_eq_false_iff] at hk ⊢
          exact ⟨hk.1, hk.2.2.2.1, trivial⟩
        · rw [q3 x x0 (by rw [eqv]; exact x1), h36 x x0 (fun w => x1 (by simp [w])) (fun w => x1 (by simp [w]))]
        · rw [(q4 s s0 s1).1, (q4 s s0 s1).2.1, (q4 s s0 s1).2.2, hoth s s0 s1]
          exact ⟨rfl, mf_I fr rfl, mf_I fr rfl⟩
      by_cases k : K = []
      · subst k
        obtain ⟨υ, q1, q2, q3, q4⟩ := go (md_ai (md_ai σ 21 t.toNatClampNeg v) 36 v.toNatClampNeg (-1)) (mf_ai (mf_ai mf_rfl rfl) rfl) (fun s s0 s1 => by rw [sI_ai1 (by decide), sI_ai t0 s0, if_neg (fun q => s1 q.2)]) (fun x x0 _ x2 => by rw [sI_ai e0 x0, if_neg (fun q => x2 q.2), sI_ai1 (by decide)]) (by
          refine ⟨?_, ?_⟩
          · rw [sI_ai1 (by decide), sI_ai2]
          · show sI _ 36 v = -1
            rw [sI_ai2])
        refine ⟨υ, ?_, q2, q3, q4⟩
        have l1 : (([] : List Int32)).getLastD (-1) = (-1 : Int32) := rfl
        rw [l1]
        clear F dj fe go q2 q3 q4 s1 s2' nd
        rw [mm_bury_16]
        simp (disch := lia) only [lt, gd_in, if_pos, if_neg, ↓reduceIte, gd_z0, gd_z1, gd_tt, sF_fold, sG_fold, sI_fold, sJ_fold, c, mm_bury_96, mm_bury_105]
        exact q1
      · have my : K.getLastD (-1) ∈ K := by
          rcases List.eq_nil_or_concat K with q | ⟨l, w, q⟩
          · exact absurd q k
          · rw [q]; simp
        generalize hy : K.getLastD (-1) = y at *
        obtain ⟨y0, y1, _, _⟩ := F.1 t ht y (by rw [fU_s]; simp [my])
        have yv : y ≠ v := fun q => vK (by rw [← q]; exact my)
        obtain ⟨υ, q1, q2, q3, q4⟩ := go (md_ai (md_ai σ 36 y.toNatClampNeg v) 36 v.toNatClampNeg (-1)) (mf_ai (mf_ai mf_rfl rfl) rfl) (fun s s0 s1 => by rw [sI_ai1 (by decide), sI_ai1 (by decide)]) (fun x x0 x1 x2 => by rw [sI_ai e0 x0, if_neg (fun q => x2 q.2), sI_ai y0 x0, if_neg (fun q => x1 (by rw [q.2]; exact my))]) (by
          rw [sI_ai1 (by decide), sI_ai1 (by decide)]
          refine seg_end s1 hy.symm k ?_ ?_ ?_ (fun x hx xy => ?_)
          · rw [List.nodup_append]
            exact ⟨(List.nodup_append.mp nd).1, by simp, fun a ha b hb q => vK (by simp at hb; rw [← hb, ← q]; exact ha)⟩
          · rw [sI_ai e0 y0, if_neg (fun q => yv q.2), sI_ai2]
          · rw [sI_ai2]
          · have x0 := (F.1 t ht x (by rw [fU_s]; simp [hx])).1
            rw [sI_ai e0 x0, if_neg (fun q => vK (by rw [← q.2]; exact hx)), sI_ai y0 x0, if_neg (fun q => xy q.2)])
        refine ⟨υ, ?_, q2, q3, q4⟩
        clear F dj fe go q2 q3 q4 s1 s2' nd
        rw [mm_bury_16]
        simp (disch := lia) only [lt, gd_in, if_pos, if_neg, ↓reduceIte, gd_z0, gd_z1, gd_tt, sF_fold, sG_fold, sI_fold, sJ_fold, c, mm_bury_96, mm_bury_105]
        exact q1
