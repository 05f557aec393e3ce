/-! LAYER 2: the system's tables: put on an entry that is there -/
def hZ (k : Nat) : Bool := [199, 200, 214, 215].contains k
theorem mf_HS {P : Nat → Bool} {σ τ : mS} {ts fh : List Int32} {es hs : Int32 → List Int32} (fr : m_fr P σ τ) (h : P 202 = false ∧ P 203 = false ∧ P 204 = false ∧ P 205 = false ∧ P 206 = false ∧ P 207 = false ∧ P 208 = false ∧ P 212 = false ∧ P 213 = false) (H : HS σ ts es hs fh) : HS τ ts es hs fh := by
  obtain ⟨p1, p2, p3, p4, p5, p6, p7, p8, p9⟩ := h
  have e : ∀ k, P k = false → sI τ k = sI σ k := fun k hk => by funext m; exact mf_I fr hk
  have j : ∀ m, sJ τ 213 m = sJ σ 213 m := fun m => mf_J fr p9
  simp only [HS, HS1, e _ p1, e _ p2, e _ p3, e _ p4, e _ p5, e _ p7, e _ p8, j, mf_F fr p6] at H ⊢
  exact H
theorem lv_upd {σ τ : mS} {l : List Int32} {e j : Int32} (h2 : ∀ x, x ∈ l → sI τ 212 x = sI σ 212 x ∧ sJ τ 213 x = sJ σ 213 x) (h4 : ∀ x, x ∈ l → x ≠ e → sI τ 214 x = sI σ 214 x) (hn : ¬ (sI σ 212 e = 3 ∧ sJ σ 213 e = Int32.toInt64 j)) : lvn τ l j ↔ lvn σ l j := by
  constructor
  · rintro ⟨x, x1, x2, x3, x4⟩
    rw [(h2 x x1).1] at x2
    rw [(h2 x x1).2] at x3
    have xe : x ≠ e := fun q => hn (by rw [← q]; exact ⟨x2, x3⟩)
    exact ⟨x, x1, x2, x3, by rw [← h4 x x1 xe]; exact x4⟩
  · rintro ⟨x, x1, x2, x3, x4⟩
    have xe : x ≠ e := fun q => hn (by rw [← q]; exact ⟨x2, x3⟩)
    exact ⟨x, x1, by rw [(h2 x x1).1]; exact x2, by rw [(h2 x x1).2]; exact x3, by rw [h4 x x1 xe]; exact x4⟩
/-- what put does to an entry that is there -/
theorem put_old {N : Nat} (hN : BIG ≤ N) {σ : mS} {ts ff fh : List Int32} {es ps hs : Int32 → List Int32} {t e kt tag : Int32} {k v : Int64} (M : MX σ ts es ps hs ff fh) (hd : dst σ) (ht : t ∈ ts) (he : e ∈ es t) (hq : k_eq σ (sI σ 212 e) (sJ σ 213 e) kt k) (g0 : 0 ≤ tag) (g1 : tag ≤ 8) : ∃ τ hs' fh', xx3_put_b20 N t kt k tag v e 0 σ = some (.ok τ) ∧ MX τ ts es ps hs' ff fh' ∧ (∀ x, 0 ≤ x → sI τ 214 x = if x = e then tag else sI σ 214 x) ∧ (∀ x, 0 ≤ x → sJ τ 215 x = if x = e then v else sJ σ 215 x) ∧ m_fr (fun k => hZ k || hV k) σ τ := by
  obtain ⟨F, H, B, E⟩ := M
  obtain ⟨t0, t1, _⟩ := H.1 t ht
  obtain ⟨e0, e1, e2, e3⟩ := F.1 t ht e he
  obtain ⟨E1, E2, E3, E4, E5, E6, E7⟩ := E
  obtain ⟨w1, w2, w3, w4, w5⟩ := E2 t ht
  have ekt : sI σ 212 e = kt := hq.1
  have ek : kt = 3 → sJ σ 213 e = k := fun q => by
    have := hq.2
    rw [ekt, if_neg (by rw [q]; decide)] at this
    exact this
  -- the whole, once the counts are right
  have key : ∀ (σ1 : mS) (y0 : Int32), m_fr (fun k => [199, 200].contains k) σ σ1 → (∀ s, 0 ≤ s → s ≠ t → sI σ1 199 s = sI σ 199 s ∧ sI σ1 200 s = sI σ 200 s) → (sI σ1 199 t).toInt = (((es t).filter (fun x => if x = e then decide (tag ≠ 0) else alv σ x)).length : Int) → (sI σ1 200 t).toInt = (((es t).filter (fun x => !(if x = e then decide (tag ≠ 0) else alv σ x))).length : Int) → (y0 = 0 → (tag = 0 ↔ sI σ 214 e = 0)) → xx3_put_b20 N t kt k tag v e 0 σ = xx3_put_b197 N t kt k tag v e y0 σ1 → ∃ τ hs' fh', xx3_put_b20 N t kt k tag v e 0 σ = some (.ok τ) ∧ MX τ ts es ps hs' ff fh' ∧ (∀ x, 0 ≤ x → sI τ 214 x = if x = e then tag else sI σ 214 x) ∧ (∀ x, 0 ≤ x → sJ τ 215 x = if x = e then v else sJ σ 215 x) ∧ m_fr (fun k => hZ k || hV k) σ τ := by
    intro σ1 y0 fr1 oth c1 c2 hy ex
    generalize h2 : md_al (md_ai σ1 214 e.toNatClampNeg tag) 215 e.toNatClampNeg v = σ2
    have fr : m_fr hZ σ σ2 := by
      rw [← h2]
      refine mf_al (mf_ai (mf_mono fr1 (fun k hk => ?_)) rfl) rfl
      simp only [hZ, List.contains_cons, List.contains_nil, Bool.or_eq_false_iff] at hk ⊢
      exact ⟨hk.1, hk.2.1, trivial⟩
    have i214 : ∀ x, 0 ≤ x → sI σ2 214 x = if x = e then tag else sI σ 214 x := fun x x0 => by
      rw [← h2, sI_al, sI_ai e0 x0, mf_I fr1 rfl]
      simp only [true_and]
    have i215 : ∀ x, 0 ≤ x → sJ σ2 215 x = if x = e then v else sJ σ 215 x := fun x x0 => by
      rw [← h2, sJ_al e0 x0, sJ_ai, mf_J fr1 rfl]
      simp only [true_and]
    have i199 : ∀ s, sI σ2 199 s = sI σ1 199 s := fun s => by rw [← h2, sI_al, sI_ai1 (by decide)]
    have i200 : ∀ s, sI σ2 200 s = sI σ1 200 s := fun s => by rw [← h2, sI_al, sI_ai1 (by decide)]
    have al : ∀ x, 0 ≤ x → alv σ2 x = if x = e then decide (tag ≠ 0) else alv σ x := fun x x0 => by
      simp only [alv]
      rw [i214 x x0]
      split <;> rfl
    have F2 : FX σ2 ts es ps := mf_FX2 fr ⟨rfl, rfl, rfl, rfl, rfl, rfl⟩ ⟨rfl, rfl, rfl, rfl, rfl⟩ F
    have H2 : HS σ2 ts es hs fh := mf_HS fr ⟨rfl, rfl, rfl, rfl, rfl, rfl, rfl, rfl, rfl⟩ H
    have b2 : ∀ s, sI σ2 201 s = sI σ 201 s := fun s => mf_I fr rfl
    have kk : ∀ s, s ∈ ts → ∀ x, x ∈ es s → sI σ2 212 x = sI σ 212 x ∧ sJ σ2 213 x = sJ σ 213 x := fun s _ x _ => ⟨mf_I fr rfl, mf_J fr rfl⟩
    have oe : ∀ s, s ∈ ts → s ≠ t → ∀ x, x ∈ es s → x ≠ e := fun s hs' c x hx q => c (by rw [← (F.1 s hs' x hx).2.2.1, q]; exact e2)
    have E2' : EX σ2 ts es ff := by
      refine ⟨E1, fun s hs' => ?_, ?_, E4, E5, by rw [mf_F fr rfl]; exact E6, by rw [mf_F fr rfl]; exact E7⟩
      · obtain ⟨z1, z2, z3, z4, z5⟩ := E2 s hs'
        have i217 : sI σ2 217 = sI σ 217 := by funext m; exact mf_I fr rfl
        refine ⟨by rw [i217, mf_I fr rfl]; exact z1, by rw [mf_I fr rfl]; exact z2, z3, ?_, ?_⟩
        · rw [i199]
          by_cases c : s = t
          · subst c
            rw [c1, List.filter_congr (fun x hx => al x (F.1 s ht x hx).1)]
          · rw [(oth s (H.1 s hs').1 c).1, z4, List.filter_congr (fun x hx => (al x (F.1 s hs' x hx).1).trans (if_neg (oe s hs' c x hx)))]
        · rw [i200]
          by_cases c : s = t
          · subst c
            rw [c2]
            congr 2
            exact (List.filter_congr (fun x hx => by rw [al x (F.1 s ht x hx).1])).symm
          · rw [(oth s (H.1 s hs').1 c).2, z5]
            congr 2
            exact (List.filter_congr (fun x hx => by rw [al x (F.1 s hs' x hx).1, if_neg (oe s hs' c x hx)])).symm
      · rw [mf_F fr rfl]
        exact seg_congr E3 (fun x _ => mf_I fr rfl)
    have lvo : ∀ s, s ∈ ts → ∀ j, (s = t → ¬ (sI σ 212 e = 3 ∧ sJ σ 213 e = Int32.toInt64 j) ∨ (tag = 0 ↔ sI σ 214 e = 0)) → (lvn σ2 (es s) j ↔ lvn σ (es s) j) := by
      intro s hs' j hj
      by_cases c : s = t
      · rcases hj c with q | q
        · refine lv_upd (kk s hs') (fun x hx xe => ?_) q
          rw [i214 x (F.1 s hs' x hx).1, if_neg xe]
        · have same : ∀ x, x ∈ es s → (sI σ2 214 x ≠ 0 ↔ sI σ 214 x ≠ 0) := fun x hx => by
            rw [i214 x (F.1 s hs' x hx).1]
            by_cases xe : x = e
            · subst xe; rw [if_pos rfl]; exact not_congr q
            · rw [if_neg xe]
          constructor
          · rintro ⟨x, x1, x2, x3, x4⟩
            exact ⟨x, x1, by rw [← (kk s hs' x x1).1]; exact x2, by rw [← (kk s hs' x x1).2]; exact x3, (same x x1).mp x4⟩
          · rintro ⟨x, x1, x2, x3, x4⟩
            exact ⟨x, x1, by rw [(kk s hs' x x1).1]; exact x2, by rw [(kk s hs' x x1).2]; exact x3, (same x x1).mpr x4⟩
      · constructor
        · rintro ⟨x, x1, x2, x3, x4⟩
          rw [i214 x (F.1 s hs' x x1).1, if_neg (oe s hs' c x x1)] at x4
          exact ⟨x, x1, by rw [← (kk s hs' x x1).1]; exact x2, by rw [← (kk s hs' x x1).2]; exact x3, x4⟩
        · rintro ⟨x, x1, x2, x3, x4⟩
          refine ⟨x, x1, by rw [(kk s hs' x x1).1]; exact x2, by rw [(kk s hs' x x1).2]; exact x3, ?_⟩
          rw [i214 x (F.1 s hs' x x1).1, if_neg (oe s hs' c x x1)]; exact x4
    have k204 : ∀ x, sI σ2 204 x = sI σ 204 x := fun x => mf_I fr rfl
    obtain ⟨τ, hs', fh', r1, r2, r3⟩ := put_fin hN (kt := kt) (k := k) h2 ht ((mf_FX fr ⟨rfl, rfl, rfl, rfl, rfl, rfl⟩).2.2 hd) F2 H2 E2' (fun s hs' c => by
      obtain ⟨q1, q2, q3, q4⟩ := B s hs'
      refine ⟨by rw [b2]; exact q1, by rw [b2]; exact q2, ?_, by rw [b2, lvo s hs' _ (fun q => absurd q c)]; exact q4⟩
      rw [b2]
      intro j j0 j1 j2 q
      rw [lvo s hs' j (fun q => absurd q c)] at q
      obtain ⟨x, x1, x2⟩ := q3 j j0 j1 j2 q
      exact ⟨x, x1, by rw [k204]; exact x2⟩) he (by rw [(kk t ht e he).1]; exact ekt) (fun q => by rw [(kk t ht e he).2]; exact ek q) g0 g1 (y0 := y0) (fun q0 => by
      have hh := hy q0
      obtain ⟨q1, q2, q3, q4⟩ := B t ht
      refine ⟨by rw [b2]; exact q1, by rw [b2]; exact q2, ?_, by rw [b2, lvo t ht _ (fun _ => .inr hh)]; exact q4⟩
      rw [b2]
      intro j j0 j1 j2 q
      rw [lvo t ht j (fun _ => .inr hh)] at q
      obtain ⟨x, x1, x2⟩ := q3 j j0 j1 j2 q
      exact ⟨x, x1, by rw [k204]; exact x2⟩) (fun _ => by
      obtain ⟨q1, q2, q3, q4⟩ := B t ht
      have cv : ∀ j, ¬ (kt = 3 ∧ k = Int32.toInt64 j) → ¬ (sI σ 212 e = 3 ∧ sJ σ 213 e = Int32.toInt64 j) := fun j hj q => hj (by
        rw [ekt] at q
        exact ⟨q.1, by rw [← ek q.1]; exact q.2⟩)
      refine ⟨by rw [b2]; exact q1, by rw [b2]; exact q2, ?_, ?_⟩
      · rw [b2]
        intro j j0 j1 j2 q
        rw [lvo t ht j (fun _ => .inl (cv j j2))] at q
        obtain ⟨x, x1, x2⟩ := q3 j j0 j1 (by lia) q
        exact ⟨x, x1, by rw [k204]; exact x2⟩
      · rw [b2]
        intro j2
        rw [lvo t ht _ (fun _ => .inl (cv _ j2))]; exact q4)
    refine ⟨τ, hs', fh', by rw [ex]; exact r1, r2, fun x x0 => by rw [mf_I r3 rfl]; exact i214 x x0, fun x x0 => by rw [mf_J r3 rfl]; exact i215 x x0, mf_tr (mf_mono fr (fun k hk => ?_)) (mf_mono r3 (fun k hk => ?_))⟩
    · simp only [Bool.or_eq_false_iff] at hk; exact hk.1
    · simp only [Bool.or_eq_false_iff] at hk; exact hk.2
  have fl1 := cnt_flip (p := alv σ) (q := fun x => if x = e then decide (tag ≠ 0) else alv σ x) (e := e) (l := es t) w3 he (fun x _ xe => if_neg xe)
  have fl2 := cnt_flip (p := fun x => !alv σ x) (q := fun x => !(if x = e then decide (tag ≠ 0) else alv σ x)) (e := e) (l := es t) w3 he (fun x _ xe => by simp only [if_neg xe])
  have ale : alv σ e = decide (sI σ 214 e ≠ 0) := rfl
  simp only [if_true, ale] at fl1 fl2
  have r9 := tI_rng (sI σ 199 t)
  have r0 := tI_rng (sI σ 200 t)
  have len := nd_len (M := 20000) _ w3 (fun x hx => ⟨(F.1 t ht x hx).1, by have := (F.1 t ht x hx).2.1; rw [tI_lt] at this; exact this⟩)
  have l1 := List.length_filter_le (alv σ) (es t)
  have l2 := List.length_filter_le (fun x => !alv σ x) (es t)
  have one : (1 : Int32).toInt = 1 := rfl
  have eA : (sI σ 199 t + 1).toInt = (sI σ 199 t).toInt + 1 := by rw [tI_add] <;> simp only [one] <;> omega
  have eB : (sI σ 199 t - 1).toInt = (sI σ 199 t).toInt - 1 := by rw [tI_sub] <;> simp only [one] <;> omega
  have eC : (sI σ 200 t + 1).toInt = (sI σ 200 t).toInt + 1 := by rw [tI_add] <;> simp only [one] <;> omega
  have eD : (sI σ 200 t - 1).toInt = (sI σ 200 t).toInt - 1 := by rw [tI_sub] <;> simp only [one] <;> omega
  by_cases c : sI σ 214 e = 0
  · by_cases d : tag = 0
    · refine key σ 0 mf_rfl (fun _ _ _ => ⟨rfl, rfl⟩) ?_ ?_ (fun _ => ⟨fun _ => c, fun _ => d⟩) ?_
      · simp only [c, d] at fl1; simp at fl1; rw [w4]; simp only [d]; simp; omega
      · simp only [c, d] at fl2; simp at fl2; rw [w5]; simp only [d]; simp; omega
      · clear key F H B E2 E3 E5
        simp (disch := lia) only [xx3_put_b20, xx3_put_b124, xx3_put_b159, xx3_put_b179, xx3_put_b189, lt, gd_in, if_pos, if_neg, ↓reduceIte, gd_z0, gd_z1, gd_tt, sF_fold, sG_fold, sI_fold, sJ_fold, c, d]
    · refine key (md_ai (md_ai σ 200 t.toNatClampNeg (sI σ 200 t - 1)) 199 t.toNatClampNeg (sI σ 199 t + 1)) 1 (mf_ai (mf_ai mf_rfl rfl) rfl) (fun s s0 s1 => ⟨by rw [sI_ai t0 s0, if_neg (fun q => s1 q.2), sI_ai1 (by decide)], by rw [sI_ai1 (by decide), sI_ai t0 s0, if_neg (fun q => s1 q.2)]⟩) ?_ ?_ (fun q => absurd q (by decide)) ?_
      · rw [sI_ai2]
        simp [c, d] at fl1
        rw [eA]; simp [d]; omega
      · rw [sI_ai1 (by decide), sI_ai2]
        simp [c, d] at fl2
        rw [eD]; simp [d]; omega
      · clear key F H B E2 E3 E5
        simp (disch := lia) only [xx3_put_b20, xx3_put_b159, xx3_put_b179, xx3_put_b189, xx3_put_b192, lt, gd_in, if_pos, if_neg, ↓reduceIte, gd_z0, gd_z1, gd_tt, sF_fold, sG_fold, sI_fold, sJ_fold, sF_pi, sF_pl, sF_ai, sF_al, sG_pi, sG_pl, sG_ai, sG_al, sI_pi, sI_pl, sI_al, sI_ai1, sI_ai2, sJ_pi, sJ_pl, sJ_ai, sJ_al1, sJ_al2, Nat.reduceEqDiff, if_true, if_false, ne_eq, not_false_eq_true, ite_true, ite_false, c, d]
  · by_cases d : tag = 0
    · refine key (md_ai (md_ai σ 200 t.toNatClampNeg (sI σ 200 t + 1)) 199 t.toNatClampNeg (sI σ 199 t - 1)) 1 (mf_ai (mf_ai mf_rfl rfl) rfl) (fun s s0 s1 => ⟨by rw [sI_ai t0 s0, if_neg (fun q => s1 q.2), sI_ai1 (by decide)], by rw [sI_ai1 (by decide), sI_ai t0 s0, if_neg (fun q => s1 q.2)]⟩) ?_ ?_ (fun q => absurd q (by decide)) ?_
      · rw [sI_ai2]
        simp [c, d] at fl1
        rw [eB]; simp [d]; omega
      · rw [sI_ai1 (by decide), sI_ai2]
        simp [c, d] at fl2
        rw [eC]; simp [d]; omega
      · clear key F H B E2 E3 E5
        simp (disch := lia) only [xx3_put_b20, xx3_put_b124, xx3_put_b159, xx3_put_b179, xx3_put_b189, xx3_put_b192, lt, gd_in, if_pos, if_neg, ↓reduceIte, gd_z0, gd_z1, gd_tt, sF_fold, sG_fold, sI_fold, sJ_fold, sF_pi, sF_pl, sF_ai, sF_al, sG_pi, sG_pl, sG_ai, sG_al, sI_pi, sI_pl, sI_al, sI_ai1, sI_ai2, sJ_pi, sJ_pl, sJ_ai, sJ_al1, sJ_al2, Nat.reduceEqDiff, if_true, if_false, ne_eq, not_false_eq_true, ite_true, ite_false, c, d]
    · refine key σ 0 mf_rfl (fun _ _ _ => ⟨rfl, rfl⟩) ?_ ?_ (fun _ => ⟨fun q => absurd q d, fun q => absurd q c⟩) ?_
      · simp [c, d] at fl1; rw [w4]; simp [d]; omega
      · simp [c, d] at fl2; rw [w5]; simp [d]; omega
      · clear key F H B E2 E3 E5
        simp (disch := lia) only [xx3_put_b20, xx3_put_b124, xx3_put_b159, xx3_put_b179, xx3_put_b189, lt, gd_in, if_pos, if_neg, ↓reduceIte, gd_z0, gd_z1, gd_tt, sF_fold, sG_fold, sI_fold, sJ_fold, c, d]
