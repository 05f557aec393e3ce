/-! LAYER 2: calls: one more -/
theorem OB_dis {ba sz : Int32 → Int32} : ∀ {l : List Int32} {lo u : Int32}, OB ba sz lo l u → 0 ≤ lo → lo ≤ 600000 → ∀ f g, f ∈ l → g ∈ l → f ≠ g → ba f + sz f ≤ ba g ∨ ba g + sz g ≤ ba f
  | [], _, _, _, _, _, f, _, hf, _, _ => absurd hf (by simp)
  | x :: l, lo, u, s, h, h1, f, g, hf, hg, ne => by
    obtain ⟨s1, s2, s3, s4, s5⟩ := s
    obtain ⟨q1, q2, q3⟩ := OB_le s5 (by lia) (by lia)
    rcases List.mem_cons.mp hf with e | e
    · subst e
      rcases List.mem_cons.mp hg with e' | e'
      · exact absurd e'.symm ne
      · exact .inl (q3 g e').1
    · rcases List.mem_cons.mp hg with e' | e'
      · subst e'; exact .inr (q3 f e).1
      · exact OB_dis s5 (by lia) (by lia) f g e e' ne
/-- registers of calls: where they lie -/
theorem XF_at {w : WD} {xf : Int32 → List Int32} {σ : mS} (H : XF w xf σ) {f : Int32} (hf : f ∈ fAll w xf) : (0 ≤ f ∧ f < 202) ∧ 0 ≤ sI σ 349 f ∧ sI σ 349 f ≤ 2600 ∧ (sI σ 349 f ≠ 0 → 0 ≤ sI σ 347 f ∧ sI σ 347 f ≤ 560000 ∧ sI σ 347 f + sI σ 349 f ≤ 560000) := by
  obtain ⟨fc, bl, s1, s2, nd, rg, len, ⟨b1, b2, b3, b4⟩, bn, bm⟩ := H
  refine ⟨rg f (List.mem_append_right _ hf), ?_⟩
  obtain ⟨o1, o2, o3⟩ := OB_le b3 (by decide) (by decide)
  by_cases h : sI σ 349 f = 0
  · rw [h]; exact ⟨by decide, by decide, fun q => absurd rfl q⟩
  · have := o3 f ((bm f).mpr ⟨hf, h⟩)
    exact ⟨by lia, by lia, fun _ => ⟨this.1, this.2.2.2.2, by lia⟩⟩
theorem XF_dis {w : WD} {xf : Int32 → List Int32} {σ : mS} (H : XF w xf σ) {f g : Int32} (hf : f ∈ fAll w xf) (hg : g ∈ fAll w xf) (ne : f ≠ g) (zf : sI σ 349 f ≠ 0) (zg : sI σ 349 g ≠ 0) : sI σ 347 f + sI σ 349 f ≤ sI σ 347 g ∨ sI σ 347 g + sI σ 349 g ≤ sI σ 347 f := by
  obtain ⟨fc, bl, s1, s2, nd, rg, len, ⟨b1, b2, b3, b4⟩, bn, bm⟩ := H
  exact OB_dis b3 (by decide) (by decide) f g ((bm f).mpr ⟨hf, zf⟩) ((bm g).mpr ⟨hg, zg⟩) ne
theorem XF_push {w : WD} {xf : Int32 → List Int32} {σ τ : mS} {c f : Int32} {fc bl' : List Int32} (nc : (cX w).Nodup) (hc : c ∈ cX w) (hp : ∀ e, e ∈ cX w → 0 ≤ e) (s1 : seg (sI σ 356) (sF σ 357) (f :: fc) (-1)) (s2 : ∀ c, c ∈ cX w → seg (sI σ 356) (sI σ 326 c) (xf c) (-1)) (nd : (f :: fc ++ fAll w xf).Nodup) (rg : ∀ x, x ∈ f :: fc ++ fAll w xf → 0 ≤ x ∧ x < 202) (len : (f :: fc ++ fAll w xf).length = 202) (e356 : ∀ x, 0 ≤ x → sI τ 356 x = if x = f then sI σ 326 c else sI σ 356 x) (e357 : sF τ 357 = sI σ 356 f) (e326 : ∀ x, 0 ≤ x → sI τ 326 x = if x = c then f else sI σ 326 x) (B : BLK τ bl') (bn : bl'.Nodup) (bb : ∀ x, x ∈ bl' ↔ (x = f ∨ x ∈ fAll w xf) ∧ sI τ 349 x ≠ 0) : XF w (fU xf c (f :: xf c)) τ := by
  have pm := fAll_push (f := f) (xf := xf) nc hc
  have pm2 : (fc ++ fAll w (fU xf c (f :: xf c))).Perm (f :: fc ++ fAll w xf) := (List.Perm.append_left fc pm).trans List.perm_middle
  have nf : f ∉ fc ++ fAll w xf := (List.nodup_cons.mp nd).1
  have f0 := (rg f List.mem_cons_self).1
  refine ⟨fc, bl', ?_, fun e he => ?_, pm2.nodup_iff.mpr nd, fun x hx => rg x (pm2.mem_iff.mp hx), by rw [pm2.length_eq]; exact len, B, bn, fun x => ?_⟩
  · rw [e357]
    exact seg_congr s1.2 (fun x hx => by rw [e356 x (rg x (List.mem_cons_of_mem _ (List.mem_append_left _ hx))).1, if_neg (fun q => nf (by rw [← q]; exact List.mem_append_left _ hx))])
  · have cg : ∀ x, x ∈ xf e → sI τ 356 x = sI σ 356 x := fun x hx => by
      have m := fAll_mem he hx
      rw [e356 x (rg x (List.mem_cons_of_mem _ (List.mem_append_right _ m))).1, if_neg (fun q => nf (by rw [← q]; exact List.mem_append_right _ m))]
    rw [e326 e (hp e he)]
    by_cases q : e = c
    · subst q
      rw [if_pos rfl, fU_s]
      refine ⟨rfl, ?_⟩
      rw [e356 f f0, if_pos rfl]
      exact seg_congr (s2 e he) cg
    · rw [if_neg q, fU_o q]
      exact seg_congr (s2 e he) cg
  · rw [bb, pm.mem_iff, List.mem_cons]
def qK (k : Nat) : Bool := [326, 347, 349, 355, 356, 357, 358, 359, 360, 361, 362, 363, 364, 365].contains k
/-- a block of registers at the end -/
theorem b91_x {N : Nat} {σ : mS} {bl : List Int32} {f sz : Int32} (B : BLK σ bl) (bn : bl.Nodup) (rg : ∀ x, x ∈ bl → 0 ≤ x ∧ x < 202) (nf : f ∉ bl) (f0 : 0 ≤ f) (f1 : f < 202) (hs : sI σ 349 f = sz) (s0 : 0 < sz) (s1 : sz ≤ 2600) (hu : sF σ 363 + sz ≤ 560000) : ∃ τ, xx5_push_b91 N sz f σ = some (f, τ) ∧ BLK τ (bl ++ [f]) ∧ m_fr (fun k => [347, 359, 360, 361, 362, 363].contains k) σ τ ∧ (∀ x, 0 ≤ x → sI τ 347 x = if x = f then sF σ 363 else sI σ 347 x) ∧ 0 ≤ sF σ 363 := by
  obtain ⟨b1, b2, b3, b4⟩ := B
  obtain ⟨o1, o2, o3⟩ := OB_le b3 (by decide) (by decide)
  have ob : ∀ τ : mS, (∀ x, 0 ≤ x → sI τ 347 x = if x = f then sF σ 363 else sI σ 347 x) → (∀ x, sI τ 349 x = sI σ 349 x) → OB (sI τ 347) (sI τ 349) 0 (bl ++ [f]) (sF σ 363 + sz) := fun τ h h' => by
    refine OB_app.mpr ⟨sF σ 363, OB_cg b3 (fun x hx => ⟨by rw [h x (rg x hx).1, if_neg (fun q => nf (by rw [← q]; exact hx))], h' x⟩), ?_⟩
    have e : sI τ 347 f = sF σ 363 := by rw [h f f0, if_pos rfl]
    have e2 : sI τ 349 f = sz := by rw [h', hs]
    refine ⟨by rw [e]; lia, by rw [e2]; exact s0, by rw [e2]; exact s1, by rw [e]; lia, ?_⟩
    rw [e, e2]
    rfl
  rcases List.eq_nil_or_concat bl with hb | ⟨A, y, hb⟩
  · subst hb
    have e : sF σ 362 = -1 := b2
    simp (disch := lia) only [xx5_push_b91, xx5_push_b154, xx5_push_b159, lt, gd_in, if_pos, if_neg, ↓reduceIte, gd_z0, gd_z1, gd_tt, sF_fold, sG_fold, sI_fold, sJ_fold, sF_pi, sF_pl, sF_ai, sF_al, sG_pi, sG_pl, sG_ai, sG_al, sI_pi, sI_pl, sI_al, sI_ai1, sI_ai2, sJ_pi, sJ_pl, sJ_ai, sJ_al1, sJ_al2, Nat.reduceEqDiff, if_true, if_false, ne_eq, not_false_eq_true, ite_true, ite_false, e]
    have i347 : ∀ (a b : Int32) (x : Int32), 0 ≤ x → sI (md_pi (md_pi (md_ai (md_ai (md_pi (md_ai σ 347 f.toNatClampNeg (sF σ 363)) 363 (sF σ 363 + sz)) 360 f.toNatClampNeg (-1)) 359 f.toNatClampNeg (-1)) 361 a) 362 b) 347 x = if x = f then sF σ 363 else sI σ 347 x := fun a b x hx => by
      simp (disch := lia) only [sF_pi, sF_pl, sF_ai, sF_al, sG_pi, sG_pl, sG_ai, sG_al, sI_pi, sI_pl, sI_al, sI_ai1, sI_ai2, sJ_pi, sJ_pl, sJ_ai, sJ_al1, sJ_al2, Nat.reduceEqDiff, if_true, if_false, ne_eq, not_false_eq_true, ite_true, ite_false, sI_ai f0 hx, true_and, false_and]
    refine ⟨_, rfl, ⟨?_, ?_, ?_, ?_⟩, mf_pi (mf_pi (mf_ai (mf_ai (mf_pi (mf_ai mf_rfl rfl) rfl) rfl) rfl) rfl) rfl, fun x hx => i347 _ _ x hx, by lia⟩
    · simp (disch := lia) only [sF_pi, sF_pl, sF_ai, sF_al, sG_pi, sG_pl, sG_ai, sG_al, sI_pi, sI_pl, sI_al, sI_ai1, sI_ai2, sJ_pi, sJ_pl, sJ_ai, sJ_al1, sJ_al2, Nat.reduceEqDiff, if_true, if_false, ne_eq, not_false_eq_true, ite_true, ite_false]
      exact ⟨rfl, by simp (disch := lia) only [sF_pi, sF_pl, sF_ai, sF_al, sG_pi, sG_pl, sG_ai, sG_al, sI_pi, sI_pl, sI_al, sI_ai1, sI_ai2, sJ_pi, sJ_pl, sJ_ai, sJ_al1, sJ_al2, Nat.reduceEqDiff, if_true, if_false, ne_eq, not_false_eq_true, ite_true, ite_false]; rfl⟩
    · simp (disch := lia) only [sF_pi, sF_pl, sF_ai, sF_al, sG_pi, sG_pl, sG_ai, sG_al, sI_pi, sI_pl, sI_al, sI_ai1, sI_ai2, sJ_pi, sJ_pl, sJ_ai, sJ_al1, sJ_al2, Nat.reduceEqDiff, if_true, if_false, ne_eq, not_false_eq_true, ite_true, ite_false]
      exact ⟨rfl, by simp (disch := lia) only [sF_pi, sF_pl, sF_ai, sF_al, sG_pi, sG_pl, sG_ai, sG_al, sI_pi, sI_pl, sI_al, sI_ai1, sI_ai2, sJ_pi, sJ_pl, sJ_ai, sJ_al1, sJ_al2, Nat.reduceEqDiff, if_true, if_false, ne_eq, not_false_eq_true, ite_true, ite_false]; rfl⟩
    · simp only [sF_pi, sF_ai, Nat.reduceEqDiff, if_true, if_false]
      exact ob _ (fun x hx => i347 _ _ x hx) (fun x => by simp (disch := lia) only [sF_pi, sF_pl, sF_ai, sF_al, sG_pi, sG_pl, sG_ai, sG_al, sI_pi, sI_pl, sI_al, sI_ai1, sI_ai2, sJ_pi, sJ_pl, sJ_ai, sJ_al1, sJ_al2, Nat.reduceEqDiff, if_true, if_false, ne_eq, not_false_eq_true, ite_true, ite_false])
    · simp only [sF_pi, sF_pl, sF_ai, sF_al, sG_pi, sG_pl, sG_ai, sG_al, sI_pi, sI_pl, sI_al, sI_ai1, sI_ai2, sJ_pi, sJ_pl, sJ_ai, sJ_al1, sJ_al2, Nat.reduceEqDiff, if_true, if_false, ne_eq, not_false_eq_true, ite_true, ite_false]; exact hu
  · simp only [List.concat_eq_append] at hb
    subst hb
    obtain ⟨y0, y1⟩ := rg y (by simp)
    have yf : y ≠ f := fun q => nf (by rw [← q]; simp)
    have yA : y ∉ A := fun q => (List.nodup_append.mp bn).2.2 y q y (by simp) rfl
    have b2' : seg (sI σ 360) (sF σ 362) (y :: A.reverse) (-1) := by simpa using b2
    have e : sF σ 362 = y := b2'.1
    simp (disch := lia) only [xx5_push_b91, xx5_push_b154, xx5_push_b159, lt, gd_in, if_pos, if_neg, ↓reduceIte, gd_z0, gd_z1, gd_tt, sF_fold, sG_fold, sI_fold, sJ_fold, sF_pi, sF_pl, sF_ai, sF_al, sG_pi, sG_pl, sG_ai, sG_al, sI_pi, sI_pl, sI_al, sI_ai1, sI_ai2, sJ_pi, sJ_pl, sJ_ai, sJ_al1, sJ_al2, Nat.reduceEqDiff, if_true, if_false, ne_eq, not_false_eq_true, ite_true, ite_false, e]
    have i347 : ∀ (b : Int32) (x : Int32), 0 ≤ x → sI (md_pi (md_ai (md_ai (md_ai (md_pi (md_ai σ 347 f.toNatClampNeg (sF σ 363)) 363 (sF σ 363 + sz)) 360 f.toNatClampNeg y) 359 f.toNatClampNeg (-1)) 359 y.toNatClampNeg f) 362 b) 347 x = if x = f then sF σ 363 else sI σ 347 x := fun b x hx => by
      simp (disch := lia) only [sF_pi, sF_pl, sF_ai, sF_al, sG_pi, sG_pl, sG_ai, sG_al, sI_pi, sI_pl, sI_al, sI_ai1, sI_ai2, sJ_pi, sJ_pl, sJ_ai, sJ_al1, sJ_al2, Nat.reduceEqDiff, if_true, if_false, ne_eq, not_false_eq_true, ite_true, ite_false, sI_ai f0 hx, true_and, false_and]
    refine ⟨_, rfl, ⟨?_, ?_, ?_, ?_⟩, mf_pi (mf_ai (mf_ai (mf_ai (mf_pi (mf_ai mf_rfl rfl) rfl) rfl) rfl) rfl) rfl, fun x hx => i347 _ x hx, by lia⟩
    · simp (disch := lia) only [sF_pi, sF_ai, Nat.reduceEqDiff, if_false]
      refine seg_snoc b1 yA (fun q => nf (by simp [q])) (by simp only [sI_pi, sI_ai2]) ?_ (fun x hx => ?_)
      · simp only [sI_pi]
        rw [sI_ai y0 f0, if_neg (fun q => yf q.2.symm), sI_ai2]
      · have x0 := (rg x (by simp [hx])).1
        simp only [sI_pi]
        rw [sI_ai y0 x0, if_neg (fun q => yA (by rw [← q.2]; exact hx)), sI_ai f0 x0, if_neg (fun q => nf (by rw [← q.2]; simp [hx]))]
        simp (disch := lia) only [sF_pi, sF_pl, sF_ai, sF_al, sG_pi, sG_pl, sG_ai, sG_al, sI_pi, sI_pl, sI_al, sI_ai1, sI_ai2, sJ_pi, sJ_pl, sJ_ai, sJ_al1, sJ_al2, Nat.reduceEqDiff, if_true, if_false, ne_eq, not_false_eq_true, ite_true, ite_false]
    · simp (disch := lia) only [sF_pi, if_true]
      have : (A ++ [y] ++ [f]).reverse = f :: y :: A.reverse := by simp
      rw [this]
      refine ⟨rfl, ?_⟩
      have q : sI (md_pi (md_ai (md_ai (md_ai (md_pi (md_ai σ 347 f.toNatClampNeg (sF σ 363)) 363 (sF σ 363 + sz)) 360 f.toNatClampNeg y) 359 f.toNatClampNeg (-1)) 359 y.toNatClampNeg f) 362 f) 360 f = y := by
        simp (disch := lia) only [sF_pi, sF_pl, sF_ai, sF_al, sG_pi, sG_pl, sG_ai, sG_al, sI_pi, sI_pl, sI_al, sI_ai1, sI_ai2, sJ_pi, sJ_pl, sJ_ai, sJ_al1, sJ_al2, Nat.reduceEqDiff, if_true, if_false, ne_eq, not_false_eq_true, ite_true, ite_false]
      rw [q]
      have b2'' : seg (sI σ 360) y (y :: A.reverse) (-1) := by rw [e] at b2'; exact b2'
      refine seg_congr b2'' (fun x hx => ?_)
      have hx' : x ∈ A ++ [y] := by
        rcases List.mem_cons.mp hx with q | q
        · simp [q]
        · simp [List.mem_reverse.mp q]
      have x0 := (rg x hx').1
      have xf : x ≠ f := fun q => nf (by rw [← q]; exact hx')
      simp (disch := lia) only [sF_pi, sF_pl, sF_ai, sF_al, sG_pi, sG_pl, sG_ai, sG_al, sI_pi, sI_pl, sI_al, sI_ai1, sI_ai2, sJ_pi, sJ_pl, sJ_ai, sJ_al1, sJ_al2, Nat.reduceEqDiff, if_true, if_false, ne_eq, not_false_eq_true, ite_true, ite_false, sI_ai f0 x0, true_and, false_and, if_neg xf]
    · simp only [sF_pi, sF_ai, Nat.reduceEqDiff, if_true, if_false]
      exact ob _ (fun x hx => i347 _ x hx) (fun x => by simp (disch := lia) only [sF_pi, sF_pl, sF_ai, sF_al, sG_pi, sG_pl, sG_ai, sG_al, sI_pi, sI_pl, sI_al, sI_ai1, sI_ai2, sJ_pi, sJ_pl, sJ_ai, sJ_al1, sJ_al2, Nat.reduceEqDiff, if_true, if_false, ne_eq, not_false_eq_true, ite_true, ite_false])
    · simp only [sF_pi, sF_pl, sF_ai, sF_al, sG_pi, sG_pl, sG_ai, sG_al, sI_pi, sI_pl, sI_al, sI_ai1, sI_ai2, sJ_pi, sJ_pl, sJ_ai, sJ_al1, sJ_al2, Nat.reduceEqDiff, if_true, if_false, ne_eq, not_false_eq_true, ite_true, ite_false]; exact hu
theorem push_x {N : Nat} (hN : BIG ≤ N) {w : WD} {xf : Int32 → List Int32} {σ : mS} {c sz : Int32} (H : XF w xf σ) (nc : (cX w).Nodup) (hc : c ∈ cX w) (hp : ∀ e, e ∈ cX w → 0 ≤ e) (c1 : c < 121) (hn : sF σ 339 = c) (z0 : 0 ≤ sz) (z1 : sz ≤ 2600) (hl : (fAll w xf).length ≤ 199) : ∃ f τ, xx5_push N σ sz = some (f, τ) ∧ XF w (fU xf c (f :: xf c)) τ ∧ (0 ≤ f ∧ f < 202) ∧ f ∉ fAll w xf ∧ m_fr qK σ τ ∧ sF τ 358 = sF σ 358 + 1 ∧ sI τ 349 f = sz ∧ sI τ 355 f = (if sz = 0 then 1 else 0) ∧ (∀ g, g ∈ fAll w xf → xcs σ τ g) ∧ (∀ x, 0 ≤ x → sI τ 326 x = if x = c then f else sI σ 326 x) := by
  obtain ⟨fc, bl, s1, s2, nd, rg, len, B, bn, bm⟩ := H
  have c0 := hp c hc
  cases fc with
  | nil => simp only [List.nil_append] at len; omega
  | cons f fc =>
  obtain ⟨t0, t1⟩ := s1
  obtain ⟨f0, f1⟩ := rg f (by simp)
  have nf : f ∉ fc ++ fAll w xf := (List.nodup_cons.mp nd).1
  have nfa : f ∉ fAll w xf := fun q => nf (List.mem_append_right _ q)
  have nfb : f ∉ bl := fun q => nfa ((bm f).mp q).1
  have rb : ∀ x, x ∈ bl → 0 ≤ x ∧ x < 202 := fun x hx => rg x (List.mem_append_right _ ((bm x).mp hx).1)
  let bo : Int32 := if sz = 0 then 1 else 0
  let σ6 := md_ai (md_ai (md_pi (md_ai (md_ai (md_pi σ 357 (sI σ 356 f)) 356 f.toNatClampNeg (sI σ 326 c)) 326 c.toNatClampNeg f) 358 (sF σ 358 + 1)) 349 f.toNatClampNeg sz) 355 f.toNatClampNeg bo
  have head : xx5_push N σ sz = (if sz ≤ 0 then xx5_push_b159 N f σ6 else (if sF σ 363 + sz ≤ 560000 then xx5_push_b91 N sz f σ6 else bd (xx5_together N σ6) (fun z9 => xx5_push_b91 N sz f z9))) := by
    by_cases q : sz = 0
    · have hbo : bo = 1 := if_pos q
      have nb : vp_nar .boolean (1 : Int32) = 1 := by decide
      simp (disch := lia) only [xx5_push, xx5_push_b71, lt, gd_in, if_pos, if_neg, ↓reduceIte, gd_z0, gd_z1, gd_tt, sF_fold, sG_fold, sI_fold, sJ_fold, sF_pi, sF_pl, sF_ai, sF_al, sG_pi, sG_pl, sG_ai, sG_al, sI_pi, sI_pl, sI_al, sI_ai1, sI_ai2, sJ_pi, sJ_pl, sJ_ai, sJ_al1, sJ_al2, Nat.reduceEqDiff, if_true, if_false, ne_eq, not_false_eq_true, ite_true, ite_false, t0, hn, if_pos q, nb, σ6, hbo]
    · have hbo : bo = 0 := if_neg q
      have nb : vp_nar .boolean (0 : Int32) = 0 := by decide
      simp (disch := lia) only [xx5_push, xx5_push_b71, lt, gd_in, if_pos, if_neg, ↓reduceIte, gd_z0, gd_z1, gd_tt, sF_fold, sG_fold, sI_fold, sJ_fold, sF_pi, sF_pl, sF_ai, sF_al, sG_pi, sG_pl, sG_ai, sG_al, sI_pi, sI_pl, sI_al, sI_ai1, sI_ai2, sJ_pi, sJ_pl, sJ_ai, sJ_al1, sJ_al2, Nat.reduceEqDiff, if_true, if_false, ne_eq, not_false_eq_true, ite_true, ite_false, t0, hn, if_neg q, nb, σ6, hbo]
  have e356 : ∀ x, 0 ≤ x → sI σ6 356 x = if x = f then sI σ 326 c else sI σ 356 x := fun x hx => by simp (disch := lia) only [σ6, sI_ai f0 hx, sF_pi, sF_pl, sF_ai, sF_al, sG_pi, sG_pl, sG_ai, sG_al, sI_pi, sI_pl, sI_al, sI_ai1, sI_ai2, sJ_pi, sJ_pl, sJ_ai, sJ_al1, sJ_al2, Nat.reduceEqDiff, if_true, if_false, ne_eq, not_false_eq_true, ite_true, ite_false, true_and, false_and]
  have e326 : ∀ x, 0 ≤ x → sI σ6 326 x = if x = c then f else sI σ 326 x := fun x hx => by simp (disch := lia) only [σ6, sI_ai c0 hx, sF_pi, sF_pl, sF_ai, sF_al, sG_pi, sG_pl, sG_ai, sG_al, sI_pi, sI_pl, sI_al, sI_ai1, sI_ai2, sJ_pi, sJ_pl, sJ_ai, sJ_al1, sJ_al2, Nat.reduceEqDiff, if_true, if_false, ne_eq, not_false_eq_true, ite_true, ite_false, true_and, false_and]
  have e349 : ∀ x, 0 ≤ x → sI σ6 349 x = if x = f then sz else sI σ 349 x := fun x hx => by simp (disch := lia) only [σ6, sI_ai f0 hx, sF_pi, sF_pl, sF_ai, sF_al, sG_pi, sG_pl, sG_ai, sG_al, sI_pi, sI_pl, sI_al, sI_ai1, sI_ai2, sJ_pi, sJ_pl, sJ_ai, sJ_al1, sJ_al2, Nat.reduceEqDiff, if_true, if_false, ne_eq, not_false_eq_true, ite_true, ite_false, true_and, false_and]
  have e355 : ∀ x, 0 ≤ x → sI σ6 355 x = if x = f then bo else sI σ 355 x := fun x hx => by simp (disch := lia) only [σ6, sI_ai f0 hx, sF_pi, sF_pl, sF_ai, sF_al, sG_pi, sG_pl, sG_ai, sG_al, sI_pi, sI_pl, sI_al, sI_ai1, sI_ai2, sJ_pi, sJ_pl, sJ_ai, sJ_al1, sJ_al2, Nat.reduceEqDiff, if_true, if_false, ne_eq, not_false_eq_true, ite_true, ite_false, true_and, false_and]
  have f357 : sF σ6 357 = sI σ 356 f := by simp only [σ6, sF_pi, sF_pl, sF_ai, sF_al, sG_pi, sG_pl, sG_ai, sG_al, sI_pi, sI_pl, sI_al, sI_ai1, sI_ai2, sJ_pi, sJ_pl, sJ_ai, sJ_al1, sJ_al2, Nat.reduceEqDiff, if_true, if_false, ne_eq, not_false_eq_true, ite_true, ite_false]
  have f358 : sF σ6 358 = sF σ 358 + 1 := by simp only [σ6, sF_pi, sF_pl, sF_ai, sF_al, sG_pi, sG_pl, sG_ai, sG_al, sI_pi, sI_pl, sI_al, sI_ai1, sI_ai2, sJ_pi, sJ_pl, sJ_ai, sJ_al1, sJ_al2, Nat.reduceEqDiff, if_true, if_false, ne_eq, not_false_eq_true, ite_true, ite_false]
  have f363 : sF σ6 363 = sF σ 363 := by simp only [σ6, sF_pi, sF_pl, sF_ai, sF_al, sG_pi, sG_pl, sG_ai, sG_al, sI_pi, sI_pl, sI_al, sI_ai1, sI_ai2, sJ_pi, sJ_pl, sJ_ai, sJ_al1, sJ_al2, Nat.reduceEqDiff, if_true, if_false, ne_eq, not_false_eq_true, ite_true, ite_false]
  have fr6 : m_fr (fun k => [326, 349, 355, 356, 357, 358].contains k) σ σ6 := mf_ai (mf_ai (mf_pi (mf_ai (mf_ai (mf_pi mf_rfl rfl) rfl) rfl) rfl) rfl) rfl
  have sub6 : ∀ k, qK k = false → (fun k => [326, 349, 355, 356, 357, 358].contains k) k = false := fun k hk => by
    simp only [qK, List.contains_cons, List.contains_nil, Bool.or_eq_false_iff, beq_eq_false_iff_ne] at hk ⊢
    (repeat' (first | exact trivial | omega | apply And.intro))
  have frq6 := mf_mono fr6 sub6
  have B6 : BLK σ6 bl := by
    obtain ⟨b1, b2, b3, b4⟩ := B
    refine ⟨?_, ?_, ?_, by rw [f363]; exact b4⟩
    · rw [mf_F fr6 rfl]; exact seg_congr b1 (fun x _ => mf_I fr6 rfl)
    · rw [mf_F fr6 rfl]; exact seg_congr b2 (fun x _ => mf_I fr6 rfl)
    · rw [f363]
      exact OB_cg b3 (fun x hx => ⟨mf_I fr6 rfl, by rw [e349 x (rb x hx).1, if_neg (fun q => nfb (by rw [← q]; exact hx))]⟩)
  -- calls stay
  have cs : ∀ τ : mS, m_fr (fun k => [347, 359, 360, 361, 362, 363, 364, 365].contains k) σ6 τ → (∀ g, g ∈ bl → ∀ x, 0 ≤ x → x < sI σ 349 g → xt τ g x = xt σ g x ∧ xv τ g x = xv σ g x) → ∀ g, g ∈ fAll w xf → xcs σ τ g := fun τ fr hr g hg => by
    have g0 := (rg g (List.mem_append_right _ hg)).1
    have gf : g ≠ f := fun q => nfa (by rw [← q]; exact hg)
    refine ⟨fun k hk => ?_, fun x x0 x1 => ?_⟩
    · rw [mf_I fr (by simp only [List.contains_cons, List.contains_nil, Bool.or_eq_false_iff, beq_eq_false_iff_ne]; (repeat' (first | exact trivial | omega | apply And.intro)))]
      by_cases k9 : k = 349
      · subst k9; rw [e349 g g0, if_neg gf]
      · by_cases k5 : k = 355
        · subst k5; rw [e355 g g0, if_neg gf]
        · exact mf_I fr6 (by simp only [List.contains_cons, List.contains_nil, Bool.or_eq_false_iff, beq_eq_false_iff_ne]; (repeat' (first | exact trivial | omega | apply And.intro)))
    · exact hr g ((bm g).mpr ⟨hg, by lia⟩) x x0 x1
  have reg6 : ∀ g, g ∈ bl → ∀ x, 0 ≤ x → x < sI σ 349 g → xt σ6 g x = xt σ g x ∧ xv σ6 g x = xv σ g x := fun g hg x x0 x1 => by
    simp only [xt, xv]
    rw [mf_I fr6 rfl, mf_I fr6 rfl, mf_J fr6 rfl]
    exact ⟨rfl, rfl⟩
  by_cases q : sz = 0
  · rw [head, if_pos (by lia)]
    refine ⟨f, σ6, rfl, XF_push nc hc hp ⟨t0, t1⟩ s2 nd rg len e356 f357 e326 B6 bn (fun x => ?_), ⟨f0, f1⟩, nfa, frq6, f358, by rw [e349 f f0, if_pos rfl], by rw [e355 f f0, if_pos rfl], cs σ6 mf_rfl reg6, e326⟩
    rw [bm]
    constructor
    · rintro ⟨a, b⟩
      have xf : x ≠ f := fun q => nfa (by rw [← q]; exact a)
      exact ⟨.inr a, by rw [e349 x (rg x (List.mem_append_right _ a)).1, if_neg xf]; exact b⟩
    · rintro ⟨a | a, b⟩
      · rw [a, e349 f f0, if_pos rfl] at b
        exact absurd q b
      · have xf : x ≠ f := fun q => nfa (by rw [← q]; exact a)
        rw [e349 x (rg x (List.mem_append_right _ a)).1, if_neg xf] at b
        exact ⟨a, b⟩
  · -- the state before the block comes
    have lenb : bl.length ≤ 199 := by
      have := List.Nodup.length_le_of_subset bn (l₂ := fAll w xf) (fun x hx => ((bm x).mp hx).1)
      omega
    have pre : ∃ σ7, xx5_push N σ sz = xx5_push_b91 N sz f σ7 ∧ BLK σ7 bl ∧ m_fr gK σ6 σ7 ∧ (∀ g, g ∈ bl → ∀ x, 0 ≤ x → x < sI σ 349 g → xt σ7 g x = xt σ g x ∧ xv σ7 g x = xv σ g x) ∧ sF σ7 363 + sz ≤ 560000 := by
      rw [head, if_neg (by lia)]
      by_cases r : sF σ 363 + sz ≤ 560000
      · rw [if_pos r]
        exact ⟨σ6, rfl, B6, mf_rfl, reg6, by rw [f363]; exact r⟩
      · rw [if_neg r]
        obtain ⟨σ7, t1, t2, t3, t4, t5⟩ := tog_x hN B6 bn rb (by omega)
        refine ⟨σ7, by rw [t1]; rfl, t2, t3, fun g hg x x0 x1 => ?_, ?_⟩
        · have gf : g ≠ f := fun q => nfb (by rw [← q]; exact hg)
          have := t4 g hg x x0 (by rw [e349 g (rb g hg).1, if_neg gf]; exact x1)
          rw [this.1, this.2]
          exact reg6 g hg x x0 x1
        · have u0 := (OB_le t2.2.2.1 (by decide) (by decide)).1
          have : sF σ7 363 ≤ 517400 := by
            rw [tI_le]
            have z : (517400 : Int32).toInt = 517400 := rfl
            omega
          lia
    obtain ⟨σ7, p1, p2, p3, p4, p5⟩ := pre
    have s7 : sI σ7 349 f = sz := by rw [mf_I p3 rfl, e349 f f0, if_pos rfl]
    obtain ⟨τ, r1, r2, r3, r4, r5⟩ := b91_x (N := N) p2 bn rb nfb f0 f1 s7 (by lia) z1 p5
    have t349 : ∀ x, sI τ 349 x = sI σ6 349 x := fun x => by rw [mf_I r3 rfl, mf_I p3 rfl]
    have t356 : ∀ x, sI τ 356 x = sI σ6 356 x := fun x => by rw [mf_I r3 rfl, mf_I p3 rfl]
    have t326 : ∀ x, sI τ 326 x = sI σ6 326 x := fun x => by rw [mf_I r3 rfl, mf_I p3 rfl]
    have t357 : sF τ 357 = sF σ6 357 := by rw [mf_F r3 rfl, mf_F p3 rfl]
    have t358 : sF τ 358 = sF σ6 358 := by rw [mf_F r3 rfl, mf_F p3 rfl]
    have t355 : ∀ x, sI τ 355 x = sI σ6 355 x := fun x => by rw [mf_I r3 rfl, mf_I p3 rfl]
    have fr67 : m_fr (fun k => [347, 359, 360, 361, 362, 363, 364, 365].contains k) σ6 τ := mf_tr (mf_mono p3 (fun k hk => by
      simp only [gK, List.contains_cons, List.contains_nil, Bool.or_eq_false_iff, beq_eq_false_iff_ne] at hk ⊢
      (repeat' (first | exact trivial | omega | apply And.intro)))) (mf_mono r3 (fun k hk => by
      simp only [List.contains_cons, List.contains_nil, Bool.or_eq_false_iff, beq_eq_false_iff_ne] at hk ⊢
      (repeat' (first | exact trivial | omega | apply And.intro))))
    have nb2 : (bl ++ [f]).Nodup := List.nodup_append.mpr ⟨bn, by simp, fun x hx y hy z => nfb (by
      have : y = f := by simpa using hy
      rw [← this, ← z]; exact hx)⟩
    refine ⟨f, τ, by rw [p1]; exact r1, XF_push nc hc hp ⟨t0, t1⟩ s2 nd rg len (fun x hx => by rw [t356]; exact e356 x hx) (by rw [t357]; exact f357) (fun x hx => by rw [t326]; exact e326 x hx) r2 nb2 (fun x => ?_), ⟨f0, f1⟩, nfa, mf_tr frq6 (mf_mono fr67 (fun k hk => by
      simp only [qK, List.contains_cons, List.contains_nil, Bool.or_eq_false_iff, beq_eq_false_iff_ne] at hk ⊢
      (repeat' (first | exact trivial | omega | apply And.intro)))), by rw [t358]; exact f358, by rw [t349, e349 f f0, if_pos rfl], by rw [t355, e355 f f0, if_pos rfl], cs τ fr67 (fun g hg x x0 x1 => ?_), fun x hx => by rw [t326]; exact e326 x hx⟩
    · rw [t349]
      simp only [List.mem_append, List.mem_singleton]
      constructor
      · rintro (a | a)
        · obtain ⟨a1, a2⟩ := (bm x).mp a
          have xf : x ≠ f := fun q => nfa (by rw [← q]; exact a1)
          exact ⟨.inr a1, by rw [e349 x (rb x a).1, if_neg xf]; exact a2⟩
        · subst a
          exact ⟨.inl rfl, by rw [e349 x f0, if_pos rfl]; exact q⟩
      · rintro ⟨a | a, b⟩
        · exact .inr a
        · have xf : x ≠ f := fun q => nfa (by rw [← q]; exact a)
          rw [e349 x (rg x (List.mem_append_right _ a)).1, if_neg xf] at b
          exact .inl ((bm x).mpr ⟨a, b⟩)
    · rw [← (p4 g hg x x0 x1).1, ← (p4 g hg x x0 x1).2]
      have gf : g ≠ f := fun q => nfb (by rw [← q]; exact hg)
      simp only [xt, xv]
      rw [r4 g (rb g hg).1, if_neg gf, mf_I r3 rfl, mf_J r3 rfl]
      exact ⟨rfl, rfl⟩
