/-! LAYER 2: the reference's collector: entries, the loops -/
theorem ke75 {N : Nat} {τ0 : mS} {t e p x7 : Int32} {r16 : Int32 → Int32 → Int32 → mS → Option mS} (e0 : 0 ≤ e) (e1 : e < 20000) (hk : mk_ok τ0 (sI τ0 32 e) (sJ τ0 33 e)) (hp : chf τ0 t (sI τ0 32 e) (sJ τ0 33 e) = p) : mm_keepEntries_75 N r16 t e x7 τ0 = r16 t e x7 (md_ai (md_ai (md_ai τ0 36 e.toNatClampNeg (-1)) 37 e.toNatClampNeg (sI τ0 38 p)) 38 p.toNatClampNeg (e + 1)) := by
  have pr := @chf_rng τ0 t (sI τ0 32 e) (sJ τ0 33 e)
  rw [hp] at pr
  have hk' : mk_ok (md_ai τ0 36 e.toNatClampNeg (-1)) (sI τ0 32 e) (sJ τ0 33 e) := by
    have A := mf_M (P := fun k => k == 36) (σ := τ0) (τ := md_ai τ0 36 e.toNatClampNeg (-1)) (mf_ai mf_rfl rfl) ⟨rfl, rfl, rfl, rfl, rfl⟩
    simp only [mk_ok, A.1] at hk ⊢
    exact hk
  have hp' : chf (md_ai τ0 36 e.toNatClampNeg (-1)) t (sI τ0 32 e) (sJ τ0 33 e) = p := by
    rw [← hp]
    simp only [chf, sI_ai1 (show (4 : Nat) ≠ 36 by decide)]
  have c := chainOf_m (N := N) (t := t) hk'
  rw [hp'] at c
  rw [mm_keepEntries_75, gd_in (by decide) e0 e1]
  simp only [lt, sI_fold, sJ_fold]
  rw [gd_in (by decide) e0 e1, gd_in (by decide) e0 e1]
  rw [show sI (md_ai τ0 36 e.toNatClampNeg (-1)) 32 e = sI τ0 32 e from sI_ai1 (by decide), show sJ (md_ai τ0 36 e.toNatClampNeg (-1)) 33 e = sJ τ0 33 e from rfl, c]
  simp only [bd]
  rw [gd_in (by decide) pr.1 pr.2, gd_in (by decide) e0 e1, gd_in (by decide) pr.1 pr.2, mm_keepEntries_126]
  rw [show sI (md_ai τ0 36 e.toNatClampNeg (-1)) 38 p = sI τ0 38 p from sI_ai1 (by decide)]
theorem ke_live {N n : Nat} {τ : mS} {t e y p : Int32} (e0 : 0 ≤ e) (e1 : e < 20000) (t0 : 0 ≤ t) (t1 : t < 3000) (hy : y = -1 ∨ 0 ≤ y ∧ y < 20000) (hl : sI τ 34 e ≠ 0) (hk : mk_ok τ (sI τ 32 e) (sJ τ 33 e)) (hp : chf τ t (sI τ 32 e) (sJ τ 33 e) = p) : mm_keepEntries_16 N (n + 1) t y e τ = mm_keepEntries_16 N n t e (sI τ 36 e) (keS τ t y e p) := by
  rw [mm_keepEntries_16, if_neg (Int32.not_lt.mpr e0), gd_in (by decide) e0 e1]
  simp only [lt, sI_fold, sF_fold]
  rw [gd_in (by decide) e0 e1, if_neg hl, gd_in (by decide) e0 e1, nar_b1]
  rw [show sF (md_ai τ 239 e.toNatClampNeg 1) 41 = sF τ 41 from rfl]
  have A := mf_M (P := fun k => [239, 41, 36, 21].contains k) (σ := τ) (τ := md_ai (md_pi (md_ai τ 239 e.toNatClampNeg 1) 41 (sF τ 41 + 1)) 36 y.toNatClampNeg e) (mf_ai (mf_pi (mf_ai mf_rfl rfl) rfl) rfl) ⟨rfl, rfl, rfl, rfl, rfl⟩
  have B := mf_M (P := fun k => [239, 41, 36, 21].contains k) (σ := τ) (τ := md_ai (md_pi (md_ai τ 239 e.toNatClampNeg 1) 41 (sF τ 41 + 1)) 21 t.toNatClampNeg e) (mf_ai (mf_pi (mf_ai mf_rfl rfl) rfl) rfl) ⟨rfl, rfl, rfl, rfl, rfl⟩
  rcases hy with h | ⟨h, h'⟩
  · have c : ¬ 0 ≤ y := by rw [h]; decide
    have hp2 : chf (md_ai (md_pi (md_ai τ 239 e.toNatClampNeg 1) 41 (sF τ 41 + 1)) 21 t.toNatClampNeg e) t (sI (md_ai (md_pi (md_ai τ 239 e.toNatClampNeg 1) 41 (sF τ 41 + 1)) 21 t.toNatClampNeg e) 32 e) (sJ (md_ai (md_pi (md_ai τ 239 e.toNatClampNeg 1) 41 (sF τ 41 + 1)) 21 t.toNatClampNeg e) 33 e) = p := by
      rw [← hp]
      simp (disch := decide) only [chf, sF_pi, sF_pl, sF_ai, sF_al, sG_pi, sG_pl, sG_ai, sG_al, sI_pi, sI_pl, sI_al, sI_ai1, sI_ai2, sJ_pi, sJ_pl, sJ_ai, sJ_al1, sJ_al2, Nat.reduceEqDiff, if_true, if_false, ne_eq, not_false_eq_true, ite_true, ite_false]
    have hk2 : mk_ok (md_ai (md_pi (md_ai τ 239 e.toNatClampNeg 1) 41 (sF τ 41 + 1)) 21 t.toNatClampNeg e) (sI (md_ai (md_pi (md_ai τ 239 e.toNatClampNeg 1) 41 (sF τ 41 + 1)) 21 t.toNatClampNeg e) 32 e) (sJ (md_ai (md_pi (md_ai τ 239 e.toNatClampNeg 1) 41 (sF τ 41 + 1)) 21 t.toNatClampNeg e) 33 e) := by
      simp only [mk_ok, B.1] at hk ⊢
      simp (disch := decide) only [sF_pi, sF_pl, sF_ai, sF_al, sG_pi, sG_pl, sG_ai, sG_al, sI_pi, sI_pl, sI_al, sI_ai1, sI_ai2, sJ_pi, sJ_pl, sJ_ai, sJ_al1, sJ_al2, Nat.reduceEqDiff, if_true, if_false, ne_eq, not_false_eq_true, ite_true, ite_false]
      exact hk
    rw [if_neg c, gd_in (by decide) t0 t1, ke75 e0 e1 hk2 hp2, keS, if_neg c]
    rw [show sI (md_ai (md_pi (md_ai τ 239 e.toNatClampNeg 1) 41 (sF τ 41 + 1)) 21 t.toNatClampNeg e) 38 p = sI τ 38 p by simp (disch := decide) only [sF_pi, sF_pl, sF_ai, sF_al, sG_pi, sG_pl, sG_ai, sG_al, sI_pi, sI_pl, sI_al, sI_ai1, sI_ai2, sJ_pi, sJ_pl, sJ_ai, sJ_al1, sJ_al2, Nat.reduceEqDiff, if_true, if_false, ne_eq, not_false_eq_true, ite_true, ite_false]]
  · have hp2 : chf (md_ai (md_pi (md_ai τ 239 e.toNatClampNeg 1) 41 (sF τ 41 + 1)) 36 y.toNatClampNeg e) t (sI (md_ai (md_pi (md_ai τ 239 e.toNatClampNeg 1) 41 (sF τ 41 + 1)) 36 y.toNatClampNeg e) 32 e) (sJ (md_ai (md_pi (md_ai τ 239 e.toNatClampNeg 1) 41 (sF τ 41 + 1)) 36 y.toNatClampNeg e) 33 e) = p := by
      rw [← hp]
      simp (disch := decide) only [chf, sF_pi, sF_pl, sF_ai, sF_al, sG_pi, sG_pl, sG_ai, sG_al, sI_pi, sI_pl, sI_al, sI_ai1, sI_ai2, sJ_pi, sJ_pl, sJ_ai, sJ_al1, sJ_al2, Nat.reduceEqDiff, if_true, if_false, ne_eq, not_false_eq_true, ite_true, ite_false]
    have hk2 : mk_ok (md_ai (md_pi (md_ai τ 239 e.toNatClampNeg 1) 41 (sF τ 41 + 1)) 36 y.toNatClampNeg e) (sI (md_ai (md_pi (md_ai τ 239 e.toNatClampNeg 1) 41 (sF τ 41 + 1)) 36 y.toNatClampNeg e) 32 e) (sJ (md_ai (md_pi (md_ai τ 239 e.toNatClampNeg 1) 41 (sF τ 41 + 1)) 36 y.toNatClampNeg e) 33 e) := by
      simp only [mk_ok, A.1] at hk ⊢
      simp (disch := decide) only [sF_pi, sF_pl, sF_ai, sF_al, sG_pi, sG_pl, sG_ai, sG_al, sI_pi, sI_pl, sI_al, sI_ai1, sI_ai2, sJ_pi, sJ_pl, sJ_ai, sJ_al1, sJ_al2, Nat.reduceEqDiff, if_true, if_false, ne_eq, not_false_eq_true, ite_true, ite_false]
      exact hk
    rw [if_pos h, gd_in (by decide) h h', ke75 e0 e1 hk2 hp2, keS, if_pos h]
    rw [show sI (md_ai (md_pi (md_ai τ 239 e.toNatClampNeg 1) 41 (sF τ 41 + 1)) 36 y.toNatClampNeg e) 38 p = sI τ 38 p by simp (disch := decide) only [sF_pi, sF_pl, sF_ai, sF_al, sG_pi, sG_pl, sG_ai, sG_al, sI_pi, sI_pl, sI_al, sI_ai1, sI_ai2, sJ_pi, sJ_pl, sJ_ai, sJ_al1, sJ_al2, Nat.reduceEqDiff, if_true, if_false, ne_eq, not_false_eq_true, ite_true, ite_false]]
def keQ (k : Nat) : Bool := [21, 36, 37, 38, 41, 239].contains k
theorem ke16 {N : Nat} {σ : mS} {ts Mk : List Int32} {es ps0 : Int32 → List Int32} {t : Int32} {Ein : List Int32} (M0 : FM σ ts es ps0) (nd : (es t).Nodup) (ht : t ∈ ts) (t0 : 0 ≤ t) (t1 : t < 3000) (hMk : ∀ s, s ∈ Mk → s ∈ ts) (m0 : ∀ s, s ∈ Mk → 0 ≤ s) (tn : t ∉ Mk) : ∀ (R P : List Int32) (n : Nat) (v : Int32) (τ : mS) (ps : Int32 → List Int32), R.length < n → KEI σ τ Mk es ps t P R Ein → es t = P ++ R → seg (sI σ 36) v R (-1) → ∃ τ' ps', mm_keepEntries_16 N n t ((P.filter (alm σ)).getLastD (-1)) v τ = some (md_ai (md_ai τ' 22 t.toNatClampNeg (((es t).filter (alm σ)).getLastD (-1))) 24 t.toNatClampNeg 0) ∧ KEI σ τ' Mk es ps' t (es t) [] Ein ∧ (∀ x, 0 ≤ x → x ∉ es t → sI τ' 36 x = sI τ 36 x) ∧ (∀ s, 0 ≤ s → s ≠ t → sI τ' 21 s = sI τ 21 s) ∧ m_fr keQ τ τ'
  | [], P, n, v, τ, ps, hn, S, he, sg => by
    obtain ⟨n, rfl⟩ : ∃ j, n = j + 1 := ⟨n - 1, by simp at hn; omega⟩
    rw [List.append_nil] at he
    have e : v = -1 := sg
    subst e
    refine ⟨τ, ps, ?_, by rw [he]; exact S, fun _ _ _ => rfl, fun _ _ _ => rfl, mf_rfl⟩
    rw [mm_keepEntries_16, if_pos (by decide), gd_in (by decide) t0 t1]
    simp only [lt]
    rw [gd_in (by decide) t0 t1, he]
  | e :: R, P, n, v, τ, ps, hn, S, he, sg => by
    obtain ⟨n, rfl⟩ : ∃ j, n = j + 1 := ⟨n - 1, by simp at hn; omega⟩
    obtain ⟨rfl, sg⟩ := sg
    have em : v ∈ es t := by rw [he]; simp
    obtain ⟨e0, e1, e31, eok⟩ := M0.1 t ht v em
    have he' : es t = (P ++ [v]) ++ R := by rw [he]; simp
    have x36 : sI τ 36 v = sI σ 36 v := S.2.2.2.1 v List.mem_cons_self
    have fr := S.1
    have i34 : sI τ 34 v = sI σ 34 v := mf_I fr rfl
    have i32 : sI τ 32 v = sI σ 32 v := mf_I fr rfl
    have i33 : sJ τ 33 v = sJ σ 33 v := mf_J fr rfl
    have i4 : ∀ m, sI τ 4 m = sI σ 4 m := fun m => mf_I fr rfl
    have A := mf_M (P := keF) fr ⟨rfl, rfl, rfl, rfl, rfl⟩
    by_cases lv : alm σ v = true
    · have hp : chf σ t (sI σ 32 v) (sJ σ 33 v) = chf σ t (sI σ 32 v) (sJ σ 33 v) := rfl
      have S' := KE_step M0 nd ht t0 hMk m0 tn he S lv hp
      have yr : (P.filter (alm σ)).getLastD (-1) = -1 ∨ 0 ≤ (P.filter (alm σ)).getLastD (-1) ∧ (P.filter (alm σ)).getLastD (-1) < 20000 := by
        by_cases h : P.filter (alm σ) = []
        · rw [h]; exact .inl rfl
        · have m := (List.mem_filter.mp (lastD_m h)).1
          have r := M0.1 t ht _ (show _ ∈ es t by rw [he]; exact List.mem_append.mpr (.inl m))
          exact .inr ⟨r.1, r.2.1⟩
      have st := ke_live (N := N) (n := n) (τ := τ) (t := t) (e := v) (p := chf σ t (sI σ 32 v) (sJ σ 33 v)) e0 e1 t0 t1 yr (by rw [i34]; simpa [alm] using lv) (by
        rw [i32, i33]
        simp only [mk_ok, A.1] at eok ⊢
        exact eok) (by
        rw [i32, i33]
        simp only [chf, i4])
      rw [st, x36]
      have fl : (List.filter (alm σ) (P ++ [v])).getLastD (-1) = v := by
        rw [flt_s, if_pos lv]
        simp
      obtain ⟨τ', ps', h1, h2, h3, h4, h5⟩ := ke16 M0 nd ht t0 t1 hMk m0 tn R (P ++ [v]) n (sI σ 36 v) _ _ (by simp at hn; omega) S' he' sg
      rw [fl] at h1
      have pr := @chf_rng σ t (sI σ 32 v) (sJ σ 33 v)
      obtain ⟨_, _, k36, k21, _, _, kfr⟩ := keS_p (τ := τ) (t := t) (y := (P.filter (alm σ)).getLastD (-1)) (e := v) (p := chf σ t (sI σ 32 v) (sJ σ 33 v)) t0 e0 pr.1
      refine ⟨τ', ps', h1, h2, fun x x0 hx => ?_, fun s s0 hs => ?_, mf_tr kfr h5⟩
      · rw [h3 x x0 hx, k36 x x0, if_neg (fun q => hx (by rw [q]; exact em)), if_neg (fun q => ?_)]
        by_cases h : P.filter (alm σ) = []
        · rw [h] at q
          exact absurd q.1 (by decide)
        · have m := (List.mem_filter.mp (lastD_m h)).1
          rw [← q.2] at m
          exact hx (by rw [he]; exact List.mem_append.mpr (.inl m))
      · rw [h4 s s0 hs, k21 s s0, if_neg (fun q => hs q.2)]
    · have S' := KE_dead S lv
      have fl : (List.filter (alm σ) (P ++ [v])).getLastD (-1) = (P.filter (alm σ)).getLastD (-1) := by
        rw [flt_s, if_neg lv]
      obtain ⟨τ', ps', h1, h2, h3, h4, h5⟩ := ke16 M0 nd ht t0 t1 hMk m0 tn R (P ++ [v]) n (sI σ 36 v) _ _ (by simp at hn; omega) S' he' sg
      rw [fl] at h1
      refine ⟨τ', ps', ?_, h2, h3, h4, h5⟩
      rw [← h1, mm_keepEntries_16, if_neg (Int32.not_lt.mpr e0), gd_in (by decide) e0 e1]
      simp only [lt, sI_fold]
      have z34 : sI τ 34 v = 0 := by
        rw [i34]
        simp only [alm, decide_eq_true_eq, Classical.not_not] at lv
        exact lv
      rw [gd_in (by decide) e0 e1, if_pos z34, mm_keepEntries_126, x36]
/-- tables that were kept so far -/
def KO (σ τ : mS) (ts : List Int32) (v : Int32) (Mk U : List Int32) (es ps : Int32 → List Int32) (Ein : List Int32) : Prop :=
  DN σ 233 0 3000 v Mk U ∧ FRw τ 29 28 U ∧ sF τ 30 = Int32.ofNat Mk.length ∧ m_fr keF σ τ ∧ FM τ Mk (fun s => (es s).filter (alm σ)) ps ∧ (∀ e, 0 ≤ e → e < 20000 → (sI τ 239 e = 1 ↔ e ∈ Ein) ∧ (sI τ 239 e = 0 ∨ sI τ 239 e = 1)) ∧ sF τ 41 = Int32.ofNat Ein.length ∧ (∀ s, s ∈ Mk → seg (sI τ 36) (sI τ 21 s) ((es s).filter (alm σ)) (-1) ∧ sI τ 22 s = ((es s).filter (alm σ)).getLastD (-1) ∧ sI τ 24 s = 0) ∧ (∀ s, s ∈ ts → s ∉ Mk → sI τ 21 s = sI σ 21 s ∧ ∀ x, x ∈ es s → sI τ 36 x = sI σ 36 x) ∧ Ein.Nodup ∧ (∀ e, e ∈ Ein ↔ ∃ s, s ∈ Mk ∧ e ∈ (es s).filter (alm σ)) ∧ Ein.length = (Mk.map (fun s => ((es s).filter (alm σ)).length)).sum
theorem keep_m {N : Nat} (hN : BIG ≤ N) {σ τ : mS} {ts : List Int32} {v : Int32} {Mk U : List Int32} {es ps ps0 : Int32 → List Int32} {Ein : List Int32} (M0 : FM σ ts es ps0) (E : EM σ ts es) (ht : v ∈ ts) (hMk : ∀ s, s ∈ Mk → s ∈ ts) (S : KO σ τ ts v Mk U es ps Ein) (v0 : ¬ v < 0) (hv : sI σ 233 v = 1) : ∃ τ' ps', mm_keepEntries N (md_pi τ 30 (sF τ 30 + 1)) v = some τ' ∧ KO σ τ' ts (v + -1) (Mk ++ [v]) U es ps' (Ein ++ (es v).filter (alm σ)) := by
  obtain ⟨D, F, k30, fr, FMt, s3, s4, s5, s6, s7, s8, s9⟩ := S
  obtain ⟨nm, D'⟩ := DN_m D v0 hv (by decide) (by decide) (by decide)
  rw [Int32.zero_add] at nm D'
  obtain ⟨t0, t1, sg0, l22, nd, _, _⟩ := E.2.1 v ht
  have m0 : ∀ s, s ∈ Mk → 0 ≤ s := fun s hs => (E.2.1 s (hMk s hs)).1
  obtain ⟨q1, q2⟩ := s6 v ht nm
  have rge : ∀ s, s ∈ ts → ∀ x, x ∈ es s → 0 ≤ x ∧ sI σ 31 x = s := fun s hs x hx => ⟨(M0.1 s hs x hx).1, (M0.1 s hs x hx).2.2.1⟩
  have nin : ∀ s, s ∈ ts → s ≠ v → ∀ x, x ∈ es s → x ∉ es v := fun s hs ne x hx q => ne (by
    have a := (rge s hs x hx).2
    rw [(rge v ht x q).2] at a
    exact a.symm)
  have e21 : ∀ s, 0 ≤ s → sI (md_ai (md_pi τ 30 (sF τ 30 + 1)) 21 v.toNatClampNeg (-1)) 21 s = if s = v then -1 else sI τ 21 s := fun s s0 => by
    rw [sI_ai t0 s0, sI_pi]
    by_cases c : s = v
    · rw [if_pos ⟨rfl, c⟩, if_pos c]
    · rw [if_neg (fun h => c h.2), if_neg c]
  have iO : ∀ k i, k ≠ 21 → sI (md_ai (md_pi τ 30 (sF τ 30 + 1)) 21 v.toNatClampNeg (-1)) k i = sI τ k i := fun k i h => by rw [sI_ai1 h, sI_pi]
  have frB : m_fr keF σ (md_ai (md_pi τ 30 (sF τ 30 + 1)) 21 v.toNatClampNeg (-1)) := mf_ai (mf_pi fr rfl) rfl
  have frT : m_fr (fun k => [21, 30].contains k) τ (md_ai (md_pi τ 30 (sF τ 30 + 1)) 21 v.toNatClampNeg (-1)) := mf_ai (mf_pi mf_rfl rfl) rfl
  have st : mm_keepEntries N (md_pi τ 30 (sF τ 30 + 1)) v = mm_keepEntries_16 N N v (-1) (sI σ 21 v) (md_ai (md_pi τ 30 (sF τ 30 + 1)) 21 v.toNatClampNeg (-1)) := by
    rw [mm_keepEntries, gd_in (by decide) t0 t1]
    simp only [lt, sI_fold, sI_pi]
    rw [gd_in (by decide) t0 t1, q1]
  have b41 : sF (md_ai (md_pi τ 30 (sF τ 30 + 1)) 21 v.toNatClampNeg (-1)) 41 = sF τ 41 := mf_F frT rfl
  have b30 : sF (md_ai (md_pi τ 30 (sF τ 30 + 1)) 21 v.toNatClampNeg (-1)) 30 = sF τ 30 + 1 := by rw [sF_ai, sF_pi, if_pos rfl]
  generalize md_ai (md_pi τ 30 (sF τ 30 + 1)) 21 v.toNatClampNeg (-1) = τ1 at *
  have K0 : KEI σ τ1 Mk es ps v [] (es v) Ein := by
    refine ⟨frB, ?_, by show seg _ _ [] _; rw [e21 v t0, if_pos rfl]; exact rfl, fun x hx => by rw [iO 36 x (by decide)]; exact q2 x hx, fun e e0 e1 => by
      rw [iO 239 e (by decide)]
      simp only [List.filter_nil, List.append_nil]
      exact s3 e e0 e1, by rw [b41]; simp only [List.filter_nil, List.append_nil]; exact s4, fun s hs => ?_⟩
    · have A := mf_M (P := fun k => [21, 30].contains k) frT ⟨rfl, rfl, rfl, rfl, rfl⟩
      have i31 : ∀ m, sI τ1 31 m = sI τ 31 m := fun m => iO 31 m (by decide)
      have i32 : ∀ m, sI τ1 32 m = sI τ 32 m := fun m => iO 32 m (by decide)
      have i33 : ∀ m, sJ τ1 33 m = sJ τ 33 m := fun m => mf_J frT rfl
      have i4 : ∀ m, sI τ1 4 m = sI τ 4 m := fun m => iO 4 m (by decide)
      have mm : ∀ s x, s ∈ Mk ++ [v] → x ∈ fU (fun s => (es s).filter (alm σ)) v (([] : List Int32).filter (alm σ)) s → s ∈ Mk ∧ x ∈ (es s).filter (alm σ) := fun s x hs hx => by
        by_cases c : s = v
        · rw [c, fU_s] at hx
          exact absurd hx (by simp)
        · rw [fU_o c] at hx
          rcases List.mem_append.mp hs with h | h
          · exact ⟨h, hx⟩
          · exact absurd (List.mem_singleton.mp h) c
      refine ⟨fun s hs x hx => ?_, fun q q0 q1 => ?_, fun s hs x y hx hy kq => ?_⟩
      · obtain ⟨a, b⟩ := mm s x hs hx
        obtain ⟨c1, c2, c3, c4⟩ := FMt.1 s a x b
        rw [i31, i32, i33]
        refine ⟨c1, c2, c3, ?_⟩
        simp only [mk_ok, A.1] at c4 ⊢
        exact c4
      · obtain ⟨c1, c2, c3⟩ := FMt.2.1 q q0 q1
        refine ⟨by
          rw [iO 38 q (by decide)]
          exact seg_congr c1 (fun x _ => by rw [iO 37 x (by decide)]), c2, fun x => ?_⟩
        rw [c3 x, i31, i32, i33]
        simp only [chf, i4]
        refine ⟨fun ⟨⟨s, h1, h2⟩, h3⟩ => ⟨⟨s, List.mem_append.mpr (.inl h1), ?_⟩, h3⟩, fun ⟨⟨s, h1, h2⟩, h3⟩ => ⟨⟨s, mm s x h1 h2⟩, h3⟩⟩
        rw [fU_o (fun q => nm (by rw [← q]; exact h1))]
        exact h2
      · obtain ⟨a, b⟩ := mm s x hs hx
        obtain ⟨_, b'⟩ := mm s y hs hy
        rw [i32, i33, i32, i33] at kq
        simp only [mk_eq, A.2] at kq
        exact FMt.2.2 s a x y b b' kq
    · obtain ⟨g1, g2, g3⟩ := s5 s hs
      rw [e21 s (m0 s hs), if_neg (fun q => nm (by rw [← q]; exact hs)), iO 22 s (by decide), iO 24 s (by decide)]
      exact ⟨seg_congr g1 (fun x _ => iO 36 x (by decide)), g2, g3⟩
  obtain ⟨τ', ps', h1, h2, h3, h4, h5⟩ := ke16 (N := N) M0 nd ht t0 t1 hMk m0 nm (es v) [] N (sI σ 21 v) τ1 ps (by
    have := nd_20k nd (fun x hx => ⟨(M0.1 v ht x hx).1, (M0.1 v ht x hx).2.1⟩)
    simp only [BIG] at hN
    omega) K0 (List.nil_append _).symm sg0
  obtain ⟨z1, z2, z3, z4, z5, z6, z7⟩ := h2
  generalize hl : ((es v).filter (alm σ)).getLastD (-1) = y at *
  have frE : m_fr (fun k => [22, 24].contains k) τ' (md_ai (md_ai τ' 22 v.toNatClampNeg y) 24 v.toNatClampNeg 0) := mf_ai (mf_ai mf_rfl rfl) rfl
  have at22 : ∀ s, 0 ≤ s → sI (md_ai (md_ai τ' 22 v.toNatClampNeg y) 24 v.toNatClampNeg 0) 22 s = if s = v then y else sI τ' 22 s := fun s s0 => by
    rw [sI_ai1 (by decide), sI_ai t0 s0]
    by_cases c : s = v
    · rw [if_pos ⟨rfl, c⟩, if_pos c]
    · rw [if_neg (fun h => c h.2), if_neg c]
  have at24 : ∀ s, 0 ≤ s → sI (md_ai (md_ai τ' 22 v.toNatClampNeg y) 24 v.toNatClampNeg 0) 24 s = if s = v then 0 else sI τ' 24 s := fun s s0 => by
    rw [sI_ai t0 s0, sI_ai1 (by decide)]
    by_cases c : s = v
    · rw [if_pos ⟨rfl, c⟩, if_pos c]
    · rw [if_neg (fun h => c h.2), if_neg c]
  have st2 := st.trans h1
  generalize md_ai (md_ai τ' 22 v.toNatClampNeg y) 24 v.toNatClampNeg 0 = υ at *
  have iU : ∀ k i, k ≠ 22 → k ≠ 24 → sI υ k i = sI τ' k i := fun k i a b => mf_I frE (by simp only [List.contains_cons, List.contains_nil, Bool.or_eq_false_iff, beq_eq_false_iff_ne]; exact ⟨a, b, trivial⟩)
  have fU' : ∀ k, k ≠ 22 → k ≠ 24 → sF υ k = sF τ' k := fun k a b => mf_F frE (by simp only [List.contains_cons, List.contains_nil, Bool.or_eq_false_iff, beq_eq_false_iff_ne]; exact ⟨a, b, trivial⟩)
  have nE : ∀ e, e ∈ (es v).filter (alm σ) → e ∉ Ein := fun e he q => by
    obtain ⟨s, hs, hx⟩ := (s8 e).mp q
    exact nin s (hMk s hs) (fun q => nm (by rw [← q]; exact hs)) e (List.mem_filter.mp hx).1 (List.mem_filter.mp he).1
  refine ⟨υ, ps', st2, D', FRw_fr (FRw_fr (FRw_fr F frT rfl rfl) h5 rfl rfl) frE rfl rfl, ?_, mf_tr z1 (mf_mono frE (fun k hk => by
      simp only [keF, List.contains_cons, List.contains_nil, Bool.or_eq_false_iff, beq_eq_false_iff_ne] at hk
      simp only [List.contains_cons, List.contains_nil, Bool.or_eq_false_iff, beq_eq_false_iff_ne]; (repeat' (first | exact trivial | omega | apply And.intro)))), ?_, fun e e0 e1 => ?_, ?_, fun s hs => ?_, fun s hs hn => ?_, ?_, fun e => ?_, ?_⟩
  · rw [fU' 30 (by decide) (by decide), mf_F h5 (k := 30) rfl, b30, k30, List.length_append, List.length_singleton]
    exact oN_s
  · have A := mf_M (P := fun k => [22, 24].contains k) frE ⟨rfl, rfl, rfl, rfl, rfl⟩
    have eq : ∀ s, fU (fun s => (es s).filter (alm σ)) v ((es v).filter (alm σ)) s = (es s).filter (alm σ) := fun s => by
      by_cases c : s = v
      · rw [c, fU_s]
      · rw [fU_o c]
    have eqf : fU (fun s => (es s).filter (alm σ)) v ((es v).filter (alm σ)) = fun s => (es s).filter (alm σ) := funext eq
    rw [eqf] at z2
    refine ⟨fun s hs x hx => ?_, fun q q0 q1 => ?_, fun s hs x y hx hy kq => ?_⟩
    · obtain ⟨c1, c2, c3, c4⟩ := z2.1 s hs x hx
      rw [iU 31 x (by decide) (by decide), iU 32 x (by decide) (by decide), mf_J frE (k := 33) rfl]
      refine ⟨c1, c2, c3, ?_⟩
      simp only [mk_ok, A.1] at c4 ⊢
      exact c4
    · obtain ⟨c1, c2, c3⟩ := z2.2.1 q q0 q1
      refine ⟨by
        rw [iU 38 q (by decide) (by decide)]
        exact seg_congr c1 (fun x _ => by rw [iU 37 x (by decide) (by decide)]), c2, fun x => ?_⟩
      rw [c3 x, iU 31 x (by decide) (by decide), iU 32 x (by decide) (by decide), mf_J frE (k := 33) rfl]
      simp only [chf, iU 4 _ (show (4 : Nat) ≠ 22 by decide) (show (4 : Nat) ≠ 24 by decide)]
    · rw [iU 32 x (by decide) (by decide), mf_J frE (k := 33) rfl, iU 32 y (by decide) (by decide), mf_J frE (k := 33) rfl] at kq
      simp only [mk_eq, A.2] at kq
      exact z2.2.2 s hs x y hx hy kq
  · rw [iU 239 e (by decide) (by decide)]
    exact z5 e e0 e1
  · rw [fU' 41 (by decide) (by decide)]
    exact z6
  · rcases List.mem_append.mp hs with h | h
    · obtain ⟨g1, g2, g3⟩ := z7 s h
      have ne : s ≠ v := fun q => nm (by rw [← q]; exact h)
      rw [at22 s (m0 s h), if_neg ne, at24 s (m0 s h), if_neg ne, iU 21 s (by decide) (by decide)]
      exact ⟨seg_congr g1 (fun x _ => iU 36 x (by decide) (by decide)), g2, g3⟩
    · rw [List.mem_singleton] at h
      rw [h, at22 v t0, if_pos rfl, at24 v t0, if_pos rfl, iU 21 v (by decide) (by decide), hl]
      exact ⟨seg_congr z3 (fun x _ => iU 36 x (by decide) (by decide)), rfl, rfl⟩
  · rw [List.mem_append, List.mem_singleton, not_or] at hn
    obtain ⟨g1, g2⟩ := s6 s hs hn.1
    have s0 := (E.2.1 s hs).1
    rw [iU 21 s (by decide) (by decide), h4 s s0 hn.2, e21 s s0, if_neg hn.2]
    refine ⟨g1, fun x hx => ?_⟩
    rw [iU 36 x (by decide) (by decide), h3 x (rge s hs x hx).1 (nin s hs hn.2 x hx), iO 36 x (by decide)]
    exact g2 x hx
  · exact List.nodup_append.mpr ⟨s7, nd.filter _, fun a ha b hb q => nE b hb (by rw [← q]; exact ha)⟩
  · rw [List.mem_append, s8 e]
    refine ⟨fun q => ?_, fun ⟨s, hs, hx⟩ => ?_⟩
    · rcases q with ⟨s, hs, hx⟩ | q
      · exact ⟨s, List.mem_append.mpr (.inl hs), hx⟩
      · exact ⟨v, List.mem_append.mpr (.inr (List.mem_singleton.mpr rfl)), q⟩
    · rcases List.mem_append.mp hs with h | h
      · exact .inl ⟨s, h, hx⟩
      · rw [List.mem_singleton] at h
        rw [h] at hx
        exact .inr hx
  · rw [List.length_append, s9, List.map_append, List.sum_append]
    simp
