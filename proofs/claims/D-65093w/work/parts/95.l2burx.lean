/-! LAYER 2: the system's tables: bury -/
def hY (k : Nat) : Bool := k == 197 || k == 198 || k == 200 || hW k
theorem hY_hW {k : Nat} (h : hY k = false) : hW k = false := by
  simp only [hY, Bool.or_eq_false_iff] at h
  exact h.2
def alv (σ : mS) (e : Int32) : Bool := decide (sI σ 214 e ≠ 0)
theorem seg_end {nx ny : Int32 → Int32} {f y z : Int32} {K : List Int32} (s : seg nx f K (-1)) (hy : y = K.getLastD (-1)) (nk : K ≠ []) (nd : (K ++ [z]).Nodup) (h1 : ny y = z) (h2 : ny z = -1) (h3 : ∀ x, x ∈ K → x ≠ y → ny x = nx x) : seg ny f (K ++ [z]) (-1) := by
  rcases List.eq_nil_or_concat K with q | ⟨l, w, q⟩
  · exact absurd q nk
  · subst q
    simp only [List.concat_eq_append] at *
    have e : y = w := by rw [hy]; simp
    subst e
    have n1 := (List.nodup_append.mp nd).1
    have yl : y ∉ l := fun q => (List.nodup_append.mp n1).2.2 y q y (by simp) rfl
    exact seg_snoc s yl (fun q => (List.nodup_append.mp nd).2.2 z (by simp [q]) z (by simp) rfl) h1 h2 (fun x hx => h3 x (by simp [hx]) (fun w => yl (by rw [← w]; exact hx)))
/-- what the loop of bury leaves behind -/
def bu_post (σ τ : mS) (ts : List Int32) (es : Int32 → List Int32) (t : Int32) (L D : List Int32) (ff : List Int32) : Prop := ∃ ps ff', FX τ ts (fU es t L) ps ∧ seg (sI τ 217) (sI τ 197 t) L (-1) ∧ sI τ 198 t = L.getLastD (-1) ∧ sI τ 200 t = 0 ∧ seg (sI τ 217) (sF τ 219) ff' (-1) ∧ ff'.Perm (D ++ ff) ∧ (sF τ 220).toInt = (sF σ 220).toInt - D.length ∧ m_fr hY σ τ
theorem bury_lp {N : Nat} (hN : BIG ≤ N) {ts : List Int32} {es : Int32 → List Int32} {t : Int32} (ht : t ∈ ts) (t0 : 0 ≤ t) (t1 : t < 3000) : ∀ (R : List Int32) (n : Nat) (σ : mS) (ps : Int32 → List Int32) (K ff : List Int32) (v : Int32), R.length < n → FX σ ts (fU es t (K ++ R)) ps → (∀ s, s ∈ ts → s ≠ t → ∀ x, x ∈ K ++ R → x ∉ es s) → seg (sI σ 217) (sI σ 197 t) K (-1) → sI σ 198 t = K.getLastD (-1) → seg (sI σ 217) v R (-1) → (K ++ R).Nodup → seg (sI σ 217) (sF σ 219) ff (-1) → (∀ x, x ∈ ff → 0 ≤ x ∧ x ∉ K ++ R) → 0 ≤ (sF σ 220).toInt - (R.filter (fun e => !alv σ e)).length → ∃ τ, xx3_bury_b21 N n t v σ = some τ ∧ bu_post σ τ ts es t (K ++ R.filter (alv σ)) (R.filter (fun e => !alv σ e)) ff ∧ (∀ x, 0 ≤ x → x ∉ K ++ R → sI τ 217 x = sI σ 217 x) ∧ (∀ s, 0 ≤ s → s ≠ t → sI τ 197 s = sI σ 197 s ∧ sI τ 198 s = sI σ 198 s ∧ sI τ 200 s = sI σ 200 s)
  | [], n, σ, ps, K, ff, v, hn, F, dj, s1, hl, s2, nd, s3, hf, _ => by
    obtain ⟨n, rfl⟩ : ∃ j, n = j + 1 := ⟨n - 1, by simp at hn; omega⟩
    have hv : v = -1 := s2
    subst hv
    refine ⟨md_ai σ 200 t.toNatClampNeg 0, ?_, ⟨ps, ff, ?_, ?_, ?_, by rw [sI_ai2], ?_, List.Perm.refl _, by rw [sF_ai]; simp, mf_ai mf_rfl rfl⟩, fun x _ _ => by rw [sI_ai1 (by decide)], fun s s0 s1 => ⟨by rw [sI_ai1 (by decide)], by rw [sI_ai1 (by decide)], by rw [sI_ai t0 s0, if_neg (fun q => s1 q.2)]⟩⟩
    · clear F dj hf
      rw [xx3_bury_b21]
      simp (disch := lia) only [lt, gd_in, if_pos, if_neg, ↓reduceIte, gd_z0, gd_z1, gd_tt, sF_fold, sG_fold, sI_fold, sJ_fold]
    · exact mf_FX2 (mf_ai mf_rfl rfl : m_fr (fun k => k == 200) σ _) ⟨rfl, rfl, rfl, rfl, rfl, rfl⟩ ⟨rfl, rfl, rfl, rfl, rfl⟩ F
    · rw [sI_ai1 (by decide)]
      rw [List.filter_nil, List.append_nil]
      exact seg_congr s1 (fun x _ => by rw [sI_ai1 (by decide)])
    · rw [sI_ai1 (by decide), List.filter_nil, List.append_nil]; exact hl
    · rw [sF_ai]
      exact seg_congr s3 (fun x _ => by rw [sI_ai1 (by decide)])
  | e :: R, n, σ, ps, K, ff, v, hn, F, dj, s1, hl, s2, nd, s3, hf, cn => by
    obtain ⟨n, rfl⟩ : ∃ j, n = j + 1 := ⟨n - 1, by simp at hn; omega⟩
    obtain ⟨hv, s2'⟩ := s2
    subst hv
    have me : v ∈ fU es t (K ++ v :: R) t := by rw [fU_s]; simp
    obtain ⟨e0, e1, _, _⟩ := F.1 t ht v me
    have vKR : v ∉ K ++ R := fun q => by
      rw [List.nodup_append] at nd
      rcases List.mem_append.mp q with w | w
      · exact nd.2.2 v w v (by simp) rfl
      · exact (List.nodup_cons.mp nd.2.1).1 w
    have vK : v ∉ K := fun q => vKR (by simp [q])
    have vR : v ∉ R := fun q => vKR (by simp [q])
    by_cases c : sI σ 214 v = 0
    · -- it is dead
      have hal : alv σ v = false := by simp [alv, c]
      obtain ⟨τ, ps', r1, r2, r3, r4, r5, r6⟩ := release_x hN F ht (e := v) (A := K) (B := R) (by rw [fU_s]) (fun s hs hst q => by rw [fU_o hst] at q; exact dj s hs hst v (by simp) q) vKR
      rw [fU_fU] at r2
      have al : ∀ x, alv τ x = alv σ x := fun x => by simp only [alv]; rw [mf_I r6 rfl]
      have alf : alv τ = alv σ := by funext x; exact al x
      have i197 : ∀ s, sI τ 197 s = sI σ 197 s := fun s => mf_I r6 rfl
      have i198 : ∀ s, sI τ 198 s = sI σ 198 s := fun s => mf_I r6 rfl
      have i200 : ∀ s, sI τ 200 s = sI σ 200 s := fun s => mf_I r6 rfl
      have o217 : ∀ x, 0 ≤ x → x ≠ v → sI τ 217 x = sI σ 217 x := fun x x0 x1 => by rw [r3 x x0, if_neg x1]
      have pos : ∀ x, x ∈ K ++ R → 0 ≤ x := fun x hx => (F.1 t ht x (by rw [fU_s]; rcases List.mem_append.mp hx with w | w <;> simp [w])).1
      have c220 : (sF τ 220).toInt = (sF σ 220).toInt - 1 := by
        rw [r5]
        have hc := cn
        simp only [List.filter_cons, hal, Bool.not_false, if_true, List.length_cons] at hc
        have := tI_rng (sF σ 220)
        rw [tI_sub] <;> simp only [show (1 : Int32).toInt = 1 from rfl] <;> omega
      obtain ⟨υ, q1, ⟨ps2, ff2, z1, z2, z3, z4, z5, z6, z7, z8⟩, q3, q4⟩ := bury_lp hN ht t0 t1 R n τ ps' K (v :: ff) (sI σ 217 v) (by simp at hn; omega) r2 (fun s hs hst x hx => dj s hs hst x (by rcases List.mem_append.mp hx with w | w <;> simp [w])) (by rw [i197]; exact seg_congr s1 (fun x hx => o217 x (pos x (by simp [hx])) (fun w => vK (by rw [← w]; exact hx)))) (by rw [i198]; exact hl) (seg_congr s2' (fun x hx => o217 x (pos x (by simp [hx])) (fun w => vR (by rw [← w]; exact hx)))) (by
        rw [List.nodup_append] at nd ⊢
        exact ⟨nd.1, (List.nodup_cons.mp nd.2.1).2, fun a ha b hb => nd.2.2 a ha b (List.mem_cons_of_mem _ hb)⟩) (by
        rw [r4]
        refine ⟨rfl, ?_⟩
        rw [r3 v e0, if_pos rfl]
        exact seg_congr s3 (fun x hx => o217 x (hf x hx).1 (fun w => (hf x hx).2 (by rw [w]; simp)))) (fun x hx => by
        rcases List.mem_cons.mp hx with w | w
        · subst w; exact ⟨e0, vKR⟩
        · have := hf x w
          exact ⟨this.1, fun q => this.2 (by rcases List.mem_append.mp q with w | w <;> simp [w])⟩) (by
        have hc := cn
        simp only [List.filter_cons, hal, Bool.not_false, if_true, List.length_cons] at hc
        rw [alf, c220]; omega)
      have fl : (v :: R).filter (alv σ) = R.filter (alv σ) := by simp [List.filter_cons, hal]
      have fd' : (v :: R).filter (fun e => !alv σ e) = v :: R.filter (fun e => !alv σ e) := by simp [List.filter_cons, hal]
      rw [alf] at z1 z2 z3 z6 z7
      refine ⟨υ, ?_, ⟨ps2, ff2, by rw [fl]; exact z1, by rw [fl]; exact z2, by rw [fl]; exact z3, z4, z5, ?_, ?_, mf_tr (mf_mono r6 (fun k hk => hY_hW hk)) z8⟩, fun x x0 x1 => ?_, fun s s0 s1 => ?_⟩
      · have pre : xx3_bury_b21 N (n + 1) t v σ = bd (xx3_release N σ v) (fun z7 => xx3_bury_b96 N (xx3_bury_b21 N n) t (sI σ 217 v) z7) := by
          clear F dj hf r2 r3 z1 z2 z3 z4 z5 z6 z7 q3 q4 s1 s2' s3 nd o217 pos
          rw [xx3_bury_b21]
          simp (disch := lia) only [gd_in, if_neg, if_pos, sI_fold, lt, c]
        rw [pre, r1]
        exact q1
      · rw [fd']
        refine z6.trans ?_
        simp only [List.cons_append]
        exact List.perm_middle
      · rw [fd', List.length_cons, z7, c220]
        omega
      · rw [q3 x x0 (fun q => x1 (by rcases List.mem_append.mp q with w | w <;> simp [w])), o217 x x0 (fun q => x1 (by rw [q]; simp))]
      · rw [(q4 s s0 s1).1, (q4 s s0 s1).2.1, (q4 s s0 s1).2.2, i197, i198, i200]
        exact ⟨rfl, rfl, rfl⟩
    · -- it lives
      have hal : alv σ v = true := by simp [alv, c]
      have fl : (v :: R).filter (alv σ) = v :: R.filter (alv σ) := by simp [List.filter_cons, hal]
      have fd' : (v :: R).filter (fun e => !alv σ e) = R.filter (fun e => !alv σ e) := by simp [List.filter_cons, hal]
      have go : ∀ τ : mS, m_fr (fun k => [197, 198, 217].contains k) σ τ → sI τ 198 t = v → (∀ s, 0 ≤ s → s ≠ t → sI τ 197 s = sI σ 197 s ∧ sI τ 198 s = sI σ 198 s) → (∀ x, 0 ≤ x → x ∉ K → x ≠ v → sI τ 217 x = sI σ 217 x) → seg (sI τ 217) (sI τ 197 t) (K ++ [v]) (-1) → ∃ υ, xx3_bury_b21 N n t (sI σ 217 v) τ = some υ ∧ bu_post σ υ ts es t (K ++ (v :: R).filter (alv σ)) ((v :: R).filter (fun e => !alv σ e)) ff ∧ (∀ x, 0 ≤ x → x ∉ K ++ v :: R → sI υ 217 x = sI σ 217 x) ∧ (∀ s, 0 ≤ s → s ≠ t → sI υ 197 s = sI σ 197 s ∧ sI υ 198 s = sI σ 198 s ∧ sI υ 200 s = sI σ 200 s) := by
        intro τ fr h198 hoth h217 sg
        have alf : alv τ = alv σ := by funext x; simp only [alv]; rw [mf_I fr rfl]
        have eqv : K ++ [v] ++ R = K ++ v :: R := by simp
        have F' : FX τ ts (fU es t (K ++ [v] ++ R)) ps := by
          rw [eqv]; exact mf_FX2 fr ⟨rfl, rfl, rfl, rfl, rfl, rfl⟩ ⟨rfl, rfl, rfl, rfl, rfl⟩ F
        have rK : ∀ x, x ∈ R → x ∉ K := fun x hx q => (List.nodup_append.mp nd).2.2 x q x (List.mem_cons_of_mem _ hx) rfl
        have pR : ∀ x, x ∈ R → 0 ≤ x := fun x hx => (F.1 t ht x (by rw [fU_s]; simp [hx])).1
        obtain ⟨υ, q1, ⟨ps2, ff2, z1, z2, z3, z4, z5, z6, z7, z8⟩, q3, q4⟩ := bury_lp hN ht t0 t1 R n τ ps (K ++ [v]) ff (sI σ 217 v) (by simp at hn; omega) F' (fun s hs hst x hx => dj s hs hst x (by rw [← eqv]; exact hx)) sg (by rw [h198]; simp) (seg_congr s2' (fun x hx => h217 x (pR x hx) (rK x hx) (fun w => vR (by rw [← w]; exact hx)))) (by rw [eqv]; exact nd) (by
          rw [mf_F fr rfl]
          exact seg_congr s3 (fun x hx => h217 x (hf x hx).1 (fun w => (hf x hx).2 (by simp [w])) (fun w => (hf x hx).2 (by simp [w])))) (fun x hx => by rw [eqv]; exact hf x hx) (by
          have hc := cn
          rw [fd'] at hc
          rw [alf, mf_F fr rfl]; exact hc)
        rw [alf] at z1 z2 z3 z6 z7
        have e2 : K ++ [v] ++ R.filter (alv σ) = K ++ (v :: R).filter (alv σ) := by rw [fl]; simp
        rw [e2] at z1 z2 z3
        refine ⟨υ, q1, ⟨ps2, ff2, z1, z2, z3, z4, z5, by rw [fd']; exact z6, by rw [fd', z7, mf_F fr rfl], mf_tr (mf_mono fr (fun k hk => ?_)) z8⟩, fun x x0 x1 => ?_, fun s s0 s1 => ?_⟩
        · simp only [hY, hW, List.contains_cons, List.contains_nil, Bool.or_eq_false_iff] at hk ⊢
          exact ⟨hk.1.1.1, hk.1.1.2, hk.2.1, trivial⟩
        · rw [q3 x x0 (by rw [eqv]; exact x1), h217 x x0 (fun w => x1 (by simp [w])) (fun w => x1 (by simp [w]))]
        · rw [(q4 s s0 s1).1, (q4 s s0 s1).2.1, (q4 s s0 s1).2.2, (hoth s s0 s1).1, (hoth s s0 s1).2]
          exact ⟨rfl, rfl, mf_I fr rfl⟩
      by_cases k : K = []
      · subst k
        have l1 : sI σ 198 t = -1 := hl
        obtain ⟨υ, q1, q2, q3, q4⟩ := go (md_ai (md_ai (md_ai σ 217 v.toNatClampNeg (-1)) 197 t.toNatClampNeg v) 198 t.toNatClampNeg v) (mf_ai (mf_ai (mf_ai mf_rfl rfl) rfl) rfl) (by rw [sI_ai2]) (fun s s0 s1 => by
          refine ⟨?_, ?_⟩
          · rw [sI_ai1 (by decide), sI_ai t0 s0, if_neg (fun q => s1 q.2), sI_ai1 (by decide)]
          · rw [sI_ai t0 s0, if_neg (fun q => s1 q.2), sI_ai1 (by decide), sI_ai1 (by decide)]) (fun x x0 _ x2 => by rw [sI_ai1 (by decide), sI_ai1 (by decide), sI_ai e0 x0, if_neg (fun q => x2 q.2)]) (by
          refine ⟨?_, ?_⟩
          · rw [sI_ai1 (by decide), sI_ai2]
          · show sI _ 217 v = -1
            rw [sI_ai1 (by decide), sI_ai1 (by decide), sI_ai2])
        refine ⟨υ, ?_, q2, q3, q4⟩
        clear F dj hf go q2 q3 q4 s1 s2' s3 nd
        rw [xx3_bury_b21]
        simp (disch := lia) only [lt, gd_in, if_pos, if_neg, ↓reduceIte, gd_z0, gd_z1, gd_tt, sF_fold, sG_fold, sI_fold, sJ_fold, sF_pi, sF_pl, sF_ai, sF_al, sG_pi, sG_pl, sG_ai, sG_al, sI_pi, sI_pl, sI_al, sI_ai1, sI_ai2, sJ_pi, sJ_pl, sJ_ai, sJ_al1, sJ_al2, Nat.reduceEqDiff, if_true, if_false, ne_eq, not_false_eq_true, ite_true, ite_false, c, l1, xx3_bury_b89, xx3_bury_b96]
        exact q1
      · have my : sI σ 198 t ∈ K := by
          rcases List.eq_nil_or_concat K with q | ⟨l, w, q⟩
          · exact absurd q k
          · rw [hl, q]; simp
        have ry := F.1 t ht (sI σ 198 t) (by rw [fU_s]; simp [my])
        obtain ⟨y0, y1, _, _⟩ := ry
        have yv : sI σ 198 t ≠ v := fun q => vK (by rw [← q]; exact my)
        obtain ⟨υ, q1, q2, q3, q4⟩ := go (md_ai (md_ai (md_ai σ 217 v.toNatClampNeg (-1)) 217 (sI σ 198 t).toNatClampNeg v) 198 t.toNatClampNeg v) (mf_ai (mf_ai (mf_ai mf_rfl rfl) rfl) rfl) (by rw [sI_ai2]) (fun s s0 s1 => by
          refine ⟨?_, ?_⟩
          · rw [sI_ai1 (by decide), sI_ai1 (by decide), sI_ai1 (by decide)]
          · rw [sI_ai t0 s0, if_neg (fun q => s1 q.2), sI_ai1 (by decide), sI_ai1 (by decide)]) (fun x x0 x1 x2 => by rw [sI_ai1 (by decide), sI_ai y0 x0, if_neg (fun q => x1 (by rw [q.2]; exact my)), sI_ai e0 x0, if_neg (fun q => x2 q.2)]) (by
          rw [sI_ai1 (by decide), sI_ai1 (by decide), sI_ai1 (by decide)]
          refine seg_end s1 hl k ?_ ?_ ?_ (fun x hx xy => ?_)
          · rw [List.nodup_append]
            exact ⟨(List.nodup_append.mp nd).1, by simp, fun a ha b hb q => vK (by simp at hb; rw [← hb, ← q]; exact ha)⟩
          · rw [sI_ai1 (by decide), sI_ai2]
          · rw [sI_ai1 (by decide), sI_ai y0 e0, if_neg (fun q => yv q.2.symm), sI_ai2]
          · have x0 := (F.1 t ht x (by rw [fU_s]; simp [hx])).1
            rw [sI_ai1 (by decide), sI_ai y0 x0, if_neg (fun q => xy q.2), sI_ai e0 x0, if_neg (fun q => vK (by rw [← q.2]; exact hx))])
        refine ⟨υ, ?_, q2, q3, q4⟩
        have yn : sI σ 198 t ≠ -1 := by lia
        clear F dj hf go q2 q3 q4 s1 s2' s3 nd
        rw [xx3_bury_b21]
        simp (disch := lia) only [lt, gd_in, if_pos, if_neg, ↓reduceIte, gd_z0, gd_z1, gd_tt, sF_fold, sG_fold, sI_fold, sJ_fold, sF_pi, sF_pl, sF_ai, sF_al, sG_pi, sG_pl, sG_ai, sG_al, sI_pi, sI_pl, sI_al, sI_ai1, sI_ai2, sJ_pi, sJ_pl, sJ_ai, sJ_al1, sJ_al2, Nat.reduceEqDiff, if_true, if_false, ne_eq, not_false_eq_true, ite_true, ite_false, c, xx3_bury_b89, xx3_bury_b96]
        exact q1
