/-! LAYER 2: the system's tables: put whole -/
/-- the code of a new entry up to the place where the value comes -/
theorem put_nw {N : Nat} (hN : BIG ≤ N) {σ : mS} {ts ff fh : List Int32} {es ps hs : Int32 → List Int32} {t kt tag : Int32} {k v : Int64} (M : MX σ ts es ps hs ff fh) (hd : dst σ) (ht : t ∈ ts) (hk : k_ok σ kt k) (no : ∀ x, x ∈ es t → ¬ k_eq σ (sI σ 212 x) (sJ σ 213 x) kt k) (g0 : 0 < tag) (g1 : tag ≤ 8) (hc : sF σ 220 ≠ 20000) : ∃ e τ ps' hs' ff' fh', ff = e :: ff' ∧ xx3_put_b64 N t kt k tag v 1 σ = some (.ok τ) ∧ MX τ ts (fU es t (es t ++ [e])) ps' hs' ff' fh' ∧ (∀ x, 0 ≤ x → sI τ 212 x = if x = e then kt else sI σ 212 x) ∧ (∀ x, 0 ≤ x → sJ τ 213 x = if x = e then k else sJ σ 213 x) ∧ (∀ x, 0 ≤ x → sI τ 214 x = if x = e then tag else sI σ 214 x) ∧ (∀ x, 0 ≤ x → sJ τ 215 x = if x = e then v else sJ σ 215 x) ∧ sF τ 220 = sF σ 220 + 1 ∧ m_fr (fun k => hE k || hV k) σ τ := by
  have M' := M
  obtain ⟨F, H, B, E1, E2, E3, E4, E5, E6, E7⟩ := M
  obtain ⟨t0, t1, _⟩ := H.1 t ht
  cases ff with
  | nil =>
    exfalso
    apply hc
    rw [tI_eq]
    simp only [List.length_nil] at E6
    have z : (20000 : Int32).toInt = 20000 := rfl
    omega
  | cons e ff =>
    obtain ⟨e0, e1, e2⟩ := E5 e List.mem_cons_self
    have fe : sF σ 219 = e := E3.1
    have lst : sI σ 198 t = -1 ∨ (0 ≤ sI σ 198 t ∧ sI σ 198 t < 20000 ∧ sI σ 198 t ≠ e) := by
      obtain ⟨_, y2, _⟩ := E2 t ht
      rcases List.eq_nil_or_concat (es t) with q | ⟨l', w, q⟩
      · left; rw [y2, q]; rfl
      · right
        have wm : sI σ 198 t ∈ es t := by rw [y2, q]; simp
        have := F.1 t ht _ wm
        exact ⟨this.1, this.2.1, fun z => e2 t ht (by rw [← z]; exact wm)⟩
    obtain ⟨k0, k7, _, _⟩ := hk
    have pr := @pilf_rng σ t kt k
    generalize hp : pilf σ t kt k = p at pr
    obtain ⟨p0, p1⟩ := pr
    -- from the state behind the chains of entries on
    have key : ∀ s1 : mS, m_fr (fun k => [197, 208, 212, 213, 216, 217, 219, 220].contains k) σ s1 → (∀ x, 0 ≤ x → sI s1 212 x = if x = e then kt else sI σ 212 x) → (∀ x, 0 ≤ x → sJ s1 213 x = if x = e then k else sJ σ 213 x) → (∀ x, 0 ≤ x → sI s1 216 x = if x = e then t else sI σ 216 x) → (∀ x, 0 ≤ x → sI s1 208 x = if x = e then 0 else sI σ 208 x) → sI s1 217 e = -1 → (∀ x, 0 ≤ x → x ≠ e → x ≠ sI σ 198 t → sI s1 217 x = sI σ 217 x) → (sI σ 198 t ≠ -1 → sI s1 217 (sI σ 198 t) = e) → (∀ s, 0 ≤ s → sI s1 197 s = if s = t ∧ sI σ 198 t = -1 then e else sI σ 197 s) → sF s1 219 = sI σ 217 e → sF s1 220 = sF σ 220 + 1 → xx3_entry N σ t kt k = xx3_entry_b117 N t kt k e s1 → ∃ e' τ ps' hs' ff' fh', e :: ff = e' :: ff' ∧ xx3_put_b64 N t kt k tag v 1 σ = some (.ok τ) ∧ MX τ ts (fU es t (es t ++ [e'])) ps' hs' ff' fh' ∧ (∀ x, 0 ≤ x → sI τ 212 x = if x = e' then kt else sI σ 212 x) ∧ (∀ x, 0 ≤ x → sJ τ 213 x = if x = e' then k else sJ σ 213 x) ∧ (∀ x, 0 ≤ x → sI τ 214 x = if x = e' then tag else sI σ 214 x) ∧ (∀ x, 0 ≤ x → sJ τ 215 x = if x = e' then v else sJ σ 215 x) ∧ sF τ 220 = sF σ 220 + 1 ∧ m_fr (fun k => hE k || hV k) σ τ := by
      intro s1 fr1 a212 a213 a216 a208 a217 b217 c217 a197 f219 f220 ex
      -- the pile
      have frp : m_fr (fun k => [197, 198, 208, 212, 213, 216, 217, 219, 220].contains k) σ (md_ai s1 198 t.toNatClampNeg e) := by
        refine mf_ai (mf_mono fr1 (fun k hk => ?_)) rfl
        simp only [List.contains_cons, List.contains_nil, Bool.or_eq_false_iff] at hk ⊢
        exact ⟨hk.1, hk.2.2⟩
      obtain ⟨A1, A2, A3⟩ := mf_FX frp ⟨rfl, rfl, rfl, rfl, rfl, rfl⟩
      have hk' : k_ok (md_ai s1 198 t.toNatClampNeg e) kt k := by
        have := M'.1
        simp only [k_ok, A1]
        exact ⟨k0, k7, by assumption, by assumption⟩
      have pq : pilf (md_ai s1 198 t.toNatClampNeg e) t kt k = p := by
        rw [← hp]
        have g : ∀ m, sI (md_ai s1 198 t.toNatClampNeg e) 130 m = sI σ 130 m := fun m => mf_I frp rfl
        simp only [pilf, g]
      have pile := pile_x (N := N) (t := t) hk'
      rw [pq] at pile
      generalize hs7 : md_ai (md_ai (md_ai (md_ai s1 198 t.toNatClampNeg e) 218 e.toNatClampNeg (sI σ 221 p)) 221 p.toNatClampNeg e) 199 t.toNatClampNeg (sI σ 199 t + 1) = σ7
      have j221 : sI (md_ai s1 198 t.toNatClampNeg e) 221 p = sI σ 221 p := mf_I frp rfl
      have ent : xx3_entry N σ t kt k = some (.ok (e, md_ai (md_ai (md_ai s1 198 t.toNatClampNeg e) 218 e.toNatClampNeg (sI σ 221 p)) 221 p.toNatClampNeg e)) := by
        rw [ex, xx3_entry_b117, gd_in (by decide) t0 t1, lt, pile]
        simp only [bd]
        rw [gd_in (by decide) p0 p1, gd_in (by decide) e0 e1, lt, gd_in (by decide) p0 p1, lt, sI_fold, j221]
      have pre : xx3_put_b64 N t kt k tag v 1 σ = xx3_put_b197 N t kt k tag v e 1 σ7 := by
        rw [xx3_put_b64, ent]
        simp only [bx]
        have j199 : sI (md_ai (md_ai (md_ai s1 198 t.toNatClampNeg e) 218 e.toNatClampNeg (sI σ 221 p)) 221 p.toNatClampNeg e) 199 t = sI σ 199 t := by
          rw [sI_ai1 (by decide), sI_ai1 (by decide), sI_ai1 (by decide)]; exact mf_I fr1 rfl
        rw [gd_in (by decide) t0 t1, gd_in (by decide) t0 t1, lt, sI_fold, j199, hs7, xx3_put_b159, if_neg (by decide), xx3_put_b192]
      generalize h2 : md_al (md_ai σ7 214 e.toNatClampNeg tag) 215 e.toNatClampNeg v = σ2
      have fr2 : m_fr hE σ σ2 := by
        rw [← h2, ← hs7]
        refine mf_al (mf_ai (mf_ai (mf_ai (mf_ai (mf_mono frp (fun k hk => ?_)) rfl) rfl) rfl) rfl) rfl
        simp only [hE, List.contains_cons, List.contains_nil, Bool.or_eq_false_iff] at hk ⊢
        obtain ⟨q1, q2, q3, q4, q5, q6, q7, q8, q9, q10, q11, q12, q13, q14, _⟩ := hk
        exact ⟨q1, q2, q4, q5, q6, q9, q10, q12, q13, trivial⟩
      have thr : ∀ kk m, kk ≠ 214 → kk ≠ 199 → kk ≠ 221 → kk ≠ 218 → kk ≠ 198 → sI σ2 kk m = sI s1 kk m := fun kk m h1 h2' h3 h4 h5 => by
        rw [← h2, ← hs7, sI_al, sI_ai1 h1, sI_ai1 h2', sI_ai1 h3, sI_ai1 h4, sI_ai1 h5]
      have thrF : ∀ kk, sF σ2 kk = sF s1 kk := fun kk => by rw [← h2, ← hs7]; simp only [sF_pi, sF_pl, sF_ai, sF_al, sG_pi, sG_pl, sG_ai, sG_al, sI_pi, sI_pl, sI_al, sI_ai1, sI_ai2, sJ_pi, sJ_pl, sJ_ai, sJ_al1, sJ_al2, Nat.reduceEqDiff, if_true, if_false, ne_eq, not_false_eq_true, ite_true, ite_false]
      have thrJ : ∀ m, sJ σ2 213 m = sJ s1 213 m := fun m => by rw [← h2, ← hs7, sJ_al1 (by decide), sJ_ai, sJ_ai, sJ_ai, sJ_ai, sJ_ai]
      have w214 : ∀ x, 0 ≤ x → sI σ2 214 x = if x = e then tag else sI σ 214 x := fun x x0 => by
        rw [← h2, ← hs7, sI_al, sI_ai e0 x0, sI_ai1 (by decide), sI_ai1 (by decide), sI_ai1 (by decide), sI_ai1 (by decide), mf_I fr1 rfl]
        simp only [true_and]
      have w215 : ∀ x, 0 ≤ x → sJ σ2 215 x = if x = e then v else sJ σ 215 x := fun x x0 => by
        rw [← h2, ← hs7, sJ_al e0 x0, sJ_ai, sJ_ai, sJ_ai, sJ_ai, sJ_ai, mf_J fr1 rfl]
        simp only [true_and]
      obtain ⟨P1, P2, P3, P4, P5⟩ := ent_pst (tag := tag) M' ht ⟨k0, k7, by assumption, by assumption⟩ no hp (by lia) fr2 (fun x x0 => by rw [thr 212 x (by decide) (by decide) (by decide) (by decide) (by decide)]; exact a212 x x0) (fun x x0 => by rw [thrJ]; exact a213 x x0) w214 (fun x x0 => by rw [thr 216 x (by decide) (by decide) (by decide) (by decide) (by decide)]; exact a216 x x0) (fun x x0 => by rw [thr 208 x (by decide) (by decide) (by decide) (by decide) (by decide)]; exact a208 x x0) (by rw [thr 217 e (by decide) (by decide) (by decide) (by decide) (by decide)]; exact a217) (fun x x0 x1 x2 => by rw [thr 217 x (by decide) (by decide) (by decide) (by decide) (by decide)]; exact b217 x x0 x1 x2) (fun q => by rw [thr 217 _ (by decide) (by decide) (by decide) (by decide) (by decide)]; exact c217 q) (fun x x0 => by
        rw [← h2, ← hs7, sI_al, sI_ai1 (by decide), sI_ai1 (by decide), sI_ai1 (by decide), sI_ai e0 x0, sI_ai1 (by decide), mf_I fr1 rfl]
        simp only [true_and]) (fun q q0 => by
        rw [← h2, ← hs7, sI_al, sI_ai1 (by decide), sI_ai1 (by decide), sI_ai p0 q0, sI_ai1 (by decide), sI_ai1 (by decide), mf_I fr1 rfl]
        simp only [true_and]) (fun s s0 => by rw [thr 197 s (by decide) (by decide) (by decide) (by decide) (by decide)]; exact a197 s s0) (fun s s0 => by
        rw [← h2, ← hs7, sI_al, sI_ai1 (by decide), sI_ai1 (by decide), sI_ai1 (by decide), sI_ai1 (by decide), sI_ai t0 s0, mf_I fr1 rfl]
        simp only [true_and]) (fun s s0 => by
        rw [← h2, ← hs7, sI_al, sI_ai1 (by decide), sI_ai t0 s0, sI_ai1 (by decide), sI_ai1 (by decide), sI_ai1 (by decide), mf_I fr1 rfl]
        simp only [true_and]) (by rw [thrF]; exact f219) (by rw [thrF]; exact f220)
      obtain ⟨τ, hs', fh', r1, r2, r3⟩ := put_fin hN (kt := kt) (k := k) (y0 := 1) h2 ht ((mf_FX fr2 ⟨rfl, rfl, rfl, rfl, rfl, rfl⟩).2.2 hd) P1 P3 P2 P4 (by rw [fU_s]; simp) (by rw [thr 212 e (by decide) (by decide) (by decide) (by decide) (by decide), a212 e e0, if_pos rfl]) (fun _ => by rw [thrJ, a213 e e0, if_pos rfl]) (by lia) g1 (fun q => absurd q (by decide)) (fun _ => P5)
      refine ⟨e, τ, _, hs', ff, fh', rfl, by rw [pre]; exact r1, r2, fun x x0 => ?_, fun x x0 => ?_, fun x x0 => ?_, fun x x0 => ?_, ?_, ?_⟩
      · rw [mf_I r3 rfl, thr 212 x (by decide) (by decide) (by decide) (by decide) (by decide)]; exact a212 x x0
      · rw [mf_J r3 rfl, thrJ]; exact a213 x x0
      · rw [mf_I r3 rfl]; exact w214 x x0
      · rw [mf_J r3 rfl]; exact w215 x x0
      · rw [mf_F r3 rfl, thrF]; exact f220
      · refine mf_tr (mf_mono fr2 (fun k hk => ?_)) (mf_mono r3 (fun k hk => ?_))
        · simp only [Bool.or_eq_false_iff] at hk; exact hk.1
        · simp only [Bool.or_eq_false_iff] at hk; exact hk.2
    have nt := nar_tag (t := kt) (by lia) (by lia)
    have nb : vp_nar .boolean 0 = 0 := rfl
    rcases lst with l | ⟨l1, l2, l3⟩
    · refine key (md_ai (md_ai (md_ai (md_al (md_ai (md_ai (md_pi (md_pi σ 219 (sI σ 217 e)) 220 (sF σ 220 + 1)) 208 e.toNatClampNeg 0) 212 e.toNatClampNeg kt) 213 e.toNatClampNeg k) 216 e.toNatClampNeg t) 217 e.toNatClampNeg (-1)) 197 t.toNatClampNeg e) (mf_ai (mf_ai (mf_ai (mf_al (mf_ai (mf_ai (mf_pi (mf_pi mf_rfl rfl) rfl) rfl) rfl) rfl) rfl) rfl) rfl) ?_ ?_ ?_ ?_ ?_ ?_ ?_ ?_ ?_ ?_ ?_
      all_goals clear key M' F H B E2 E3 E5 no hd
      · intro x x0; simp (disch := lia) only [sF_pi, sF_pl, sF_ai, sF_al, sG_pi, sG_pl, sG_ai, sG_al, sI_pi, sI_pl, sI_al, sI_ai1, sI_ai2, sJ_pi, sJ_pl, sJ_ai, sJ_al1, sJ_al2, Nat.reduceEqDiff, if_true, if_false, ne_eq, not_false_eq_true, ite_true, ite_false, sI_ai, true_and]
      · intro x x0; simp (disch := lia) only [sF_pi, sF_pl, sF_ai, sF_al, sG_pi, sG_pl, sG_ai, sG_al, sI_pi, sI_pl, sI_al, sI_ai1, sI_ai2, sJ_pi, sJ_pl, sJ_ai, sJ_al1, sJ_al2, Nat.reduceEqDiff, if_true, if_false, ne_eq, not_false_eq_true, ite_true, ite_false, sJ_al, true_and]
      · intro x x0; simp (disch := lia) only [sF_pi, sF_pl, sF_ai, sF_al, sG_pi, sG_pl, sG_ai, sG_al, sI_pi, sI_pl, sI_al, sI_ai1, sI_ai2, sJ_pi, sJ_pl, sJ_ai, sJ_al1, sJ_al2, Nat.reduceEqDiff, if_true, if_false, ne_eq, not_false_eq_true, ite_true, ite_false, sI_ai, true_and]
      · intro x x0; simp (disch := lia) only [sF_pi, sF_pl, sF_ai, sF_al, sG_pi, sG_pl, sG_ai, sG_al, sI_pi, sI_pl, sI_al, sI_ai1, sI_ai2, sJ_pi, sJ_pl, sJ_ai, sJ_al1, sJ_al2, Nat.reduceEqDiff, if_true, if_false, ne_eq, not_false_eq_true, ite_true, ite_false, sI_ai, true_and]
      · simp (disch := lia) only [sF_pi, sF_pl, sF_ai, sF_al, sG_pi, sG_pl, sG_ai, sG_al, sI_pi, sI_pl, sI_al, sI_ai1, sI_ai2, sJ_pi, sJ_pl, sJ_ai, sJ_al1, sJ_al2, Nat.reduceEqDiff, if_true, if_false, ne_eq, not_false_eq_true, ite_true, ite_false]
      · intro x x0 x1 x2; simp (disch := lia) only [sF_pi, sF_pl, sF_ai, sF_al, sG_pi, sG_pl, sG_ai, sG_al, sI_pi, sI_pl, sI_al, sI_ai1, sI_ai2, sJ_pi, sJ_pl, sJ_ai, sJ_al1, sJ_al2, Nat.reduceEqDiff, if_true, if_false, ne_eq, not_false_eq_true, ite_true, ite_false, sI_ai, true_and, if_neg]
      · intro q; exact absurd l q
      · intro s s0; simp (disch := lia) only [sF_pi, sF_pl, sF_ai, sF_al, sG_pi, sG_pl, sG_ai, sG_al, sI_pi, sI_pl, sI_al, sI_ai1, sI_ai2, sJ_pi, sJ_pl, sJ_ai, sJ_al1, sJ_al2, Nat.reduceEqDiff, if_true, if_false, ne_eq, not_false_eq_true, ite_true, ite_false, sI_ai, true_and, l, and_true]
      · simp only [sF_pi, sF_pl, sF_ai, sF_al, sG_pi, sG_pl, sG_ai, sG_al, sI_pi, sI_pl, sI_al, sI_ai1, sI_ai2, sJ_pi, sJ_pl, sJ_ai, sJ_al1, sJ_al2, Nat.reduceEqDiff, if_true, if_false, ne_eq, not_false_eq_true, ite_true, ite_false]
      · simp only [sF_pi, sF_pl, sF_ai, sF_al, sG_pi, sG_pl, sG_ai, sG_al, sI_pi, sI_pl, sI_al, sI_ai1, sI_ai2, sJ_pi, sJ_pl, sJ_ai, sJ_al1, sJ_al2, Nat.reduceEqDiff, if_true, if_false, ne_eq, not_false_eq_true, ite_true, ite_false]
      · simp (disch := lia) only [xx3_entry, lt, gd_in, if_pos, if_neg, ↓reduceIte, gd_z0, gd_z1, gd_tt, sF_fold, sG_fold, sI_fold, sJ_fold, sF_pi, sF_pl, sF_ai, sF_al, sG_pi, sG_pl, sG_ai, sG_al, sI_pi, sI_pl, sI_al, sI_ai1, sI_ai2, sJ_pi, sJ_pl, sJ_ai, sJ_al1, sJ_al2, Nat.reduceEqDiff, if_true, if_false, ne_eq, not_false_eq_true, ite_true, ite_false, fe, nt, nb, l, hc]
    · refine key (md_ai (md_ai (md_ai (md_al (md_ai (md_ai (md_pi (md_pi σ 219 (sI σ 217 e)) 220 (sF σ 220 + 1)) 208 e.toNatClampNeg 0) 212 e.toNatClampNeg kt) 213 e.toNatClampNeg k) 216 e.toNatClampNeg t) 217 e.toNatClampNeg (-1)) 217 (sI σ 198 t).toNatClampNeg e) (mf_ai (mf_ai (mf_ai (mf_al (mf_ai (mf_ai (mf_pi (mf_pi mf_rfl rfl) rfl) rfl) rfl) rfl) rfl) rfl) rfl) ?_ ?_ ?_ ?_ ?_ ?_ ?_ ?_ ?_ ?_ ?_
      all_goals clear key M' F H B E2 E3 E5 no hd
      · intro x x0; simp (disch := lia) only [sF_pi, sF_pl, sF_ai, sF_al, sG_pi, sG_pl, sG_ai, sG_al, sI_pi, sI_pl, sI_al, sI_ai1, sI_ai2, sJ_pi, sJ_pl, sJ_ai, sJ_al1, sJ_al2, Nat.reduceEqDiff, if_true, if_false, ne_eq, not_false_eq_true, ite_true, ite_false, sI_ai, true_and]
      · intro x x0; simp (disch := lia) only [sF_pi, sF_pl, sF_ai, sF_al, sG_pi, sG_pl, sG_ai, sG_al, sI_pi, sI_pl, sI_al, sI_ai1, sI_ai2, sJ_pi, sJ_pl, sJ_ai, sJ_al1, sJ_al2, Nat.reduceEqDiff, if_true, if_false, ne_eq, not_false_eq_true, ite_true, ite_false, sJ_al, true_and]
      · intro x x0; simp (disch := lia) only [sF_pi, sF_pl, sF_ai, sF_al, sG_pi, sG_pl, sG_ai, sG_al, sI_pi, sI_pl, sI_al, sI_ai1, sI_ai2, sJ_pi, sJ_pl, sJ_ai, sJ_al1, sJ_al2, Nat.reduceEqDiff, if_true, if_false, ne_eq, not_false_eq_true, ite_true, ite_false, sI_ai, true_and]
      · intro x x0; simp (disch := lia) only [sF_pi, sF_pl, sF_ai, sF_al, sG_pi, sG_pl, sG_ai, sG_al, sI_pi, sI_pl, sI_al, sI_ai1, sI_ai2, sJ_pi, sJ_pl, sJ_ai, sJ_al1, sJ_al2, Nat.reduceEqDiff, if_true, if_false, ne_eq, not_false_eq_true, ite_true, ite_false, sI_ai, true_and]
      · simp (disch := lia) only [sF_pi, sF_pl, sF_ai, sF_al, sG_pi, sG_pl, sG_ai, sG_al, sI_pi, sI_pl, sI_al, sI_ai1, sI_ai2, sJ_pi, sJ_pl, sJ_ai, sJ_al1, sJ_al2, Nat.reduceEqDiff, if_true, if_false, ne_eq, not_false_eq_true, ite_true, ite_false, sI_ai, true_and, if_neg]
      · intro x x0 x1 x2; simp (disch := lia) only [sF_pi, sF_pl, sF_ai, sF_al, sG_pi, sG_pl, sG_ai, sG_al, sI_pi, sI_pl, sI_al, sI_ai1, sI_ai2, sJ_pi, sJ_pl, sJ_ai, sJ_al1, sJ_al2, Nat.reduceEqDiff, if_true, if_false, ne_eq, not_false_eq_true, ite_true, ite_false, sI_ai, true_and, if_neg]
      · intro q; simp (disch := lia) only [sF_pi, sF_pl, sF_ai, sF_al, sG_pi, sG_pl, sG_ai, sG_al, sI_pi, sI_pl, sI_al, sI_ai1, sI_ai2, sJ_pi, sJ_pl, sJ_ai, sJ_al1, sJ_al2, Nat.reduceEqDiff, if_true, if_false, ne_eq, not_false_eq_true, ite_true, ite_false]
      · intro s s0
        rw [if_neg (fun q => by have := q.2; lia)]
        simp (disch := lia) only [sF_pi, sF_pl, sF_ai, sF_al, sG_pi, sG_pl, sG_ai, sG_al, sI_pi, sI_pl, sI_al, sI_ai1, sI_ai2, sJ_pi, sJ_pl, sJ_ai, sJ_al1, sJ_al2, Nat.reduceEqDiff, if_true, if_false, ne_eq, not_false_eq_true, ite_true, ite_false]
      · simp only [sF_pi, sF_pl, sF_ai, sF_al, sG_pi, sG_pl, sG_ai, sG_al, sI_pi, sI_pl, sI_al, sI_ai1, sI_ai2, sJ_pi, sJ_pl, sJ_ai, sJ_al1, sJ_al2, Nat.reduceEqDiff, if_true, if_false, ne_eq, not_false_eq_true, ite_true, ite_false]
      · simp only [sF_pi, sF_pl, sF_ai, sF_al, sG_pi, sG_pl, sG_ai, sG_al, sI_pi, sI_pl, sI_al, sI_ai1, sI_ai2, sJ_pi, sJ_pl, sJ_ai, sJ_al1, sJ_al2, Nat.reduceEqDiff, if_true, if_false, ne_eq, not_false_eq_true, ite_true, ite_false]
      · simp (disch := lia) only [xx3_entry, lt, gd_in, if_pos, if_neg, ↓reduceIte, gd_z0, gd_z1, gd_tt, sF_fold, sG_fold, sI_fold, sJ_fold, sF_pi, sF_pl, sF_ai, sF_al, sG_pi, sG_pl, sG_ai, sG_al, sI_pi, sI_pl, sI_al, sI_ai1, sI_ai2, sJ_pi, sJ_pl, sJ_ai, sJ_al1, sJ_al2, Nat.reduceEqDiff, if_true, if_false, ne_eq, not_false_eq_true, ite_true, ite_false, fe, nt, nb, hc]
