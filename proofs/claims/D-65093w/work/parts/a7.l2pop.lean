/-! LAYER 2: calls: one is over -/
theorem seg_del1 {nx ny : Int32 → Int32} {A B : List Int32} {y f h e : Int32} (s : seg nx h (A ++ y :: f :: B) e) (hy : ny y = nx f) (ho : ∀ x, x ∈ A ++ B → ny x = nx x) : seg ny h (A ++ y :: B) e := by
  rw [seg_app] at s ⊢
  obtain ⟨m, s1, s2, s3, s4⟩ := s
  refine ⟨m, seg_congr s1 (fun x hx => ho x (List.mem_append_left _ hx)), s2, ?_⟩
  rw [hy]
  exact seg_congr s4 (fun x hx => ho x (List.mem_append_right _ hx))
theorem seg_at {nx : Int32 → Int32} {A B : List Int32} {f h e : Int32} (s : seg nx h (A ++ f :: B) e) : seg nx (nx f) B e ∧ (A = [] → h = f) := by
  rw [seg_app] at s
  obtain ⟨m, s1, s2, s3⟩ := s
  refine ⟨s3, fun q => ?_⟩
  subst q
  exact s1.trans s2
theorem OB_app {ba sz : Int32 → Int32} : ∀ {A B : List Int32} {lo u : Int32}, OB ba sz lo (A ++ B) u ↔ ∃ m, OB ba sz lo A m ∧ OB ba sz m B u
  | [], B, lo, u => ⟨fun s => ⟨lo, rfl, s⟩, fun ⟨m, s, t⟩ => by cases s; exact t⟩
  | x :: l, B, a, b => by
    simp only [List.cons_append, OB]
    rw [OB_app]
    exact ⟨fun ⟨p, q, w, t, m, u, v⟩ => ⟨m, ⟨p, q, w, t, u⟩, v⟩, fun ⟨m, ⟨p, q, w, t, u⟩, v⟩ => ⟨p, q, w, t, m, u, v⟩⟩
theorem OB_cg {ba sz ba' sz' : Int32 → Int32} : ∀ {l : List Int32} {lo u : Int32}, OB ba sz lo l u → (∀ x, x ∈ l → ba' x = ba x ∧ sz' x = sz x) → OB ba' sz' lo l u
  | [], _, _, s, _ => s
  | x :: l, a, b, s, c => by
    obtain ⟨s1, s2, s3, s4, s5⟩ := s
    obtain ⟨c1, c2⟩ := c x List.mem_cons_self
    refine ⟨by rw [c1]; exact s1, by rw [c2]; exact s2, by rw [c2]; exact s3, by rw [c1]; exact s4, ?_⟩
    rw [c1, c2]
    exact OB_cg s5 (fun y hy => c y (List.mem_cons_of_mem _ hy))
theorem OB_lo {ba sz : Int32 → Int32} {x lo lo' u : Int32} {l : List Int32} (s : OB ba sz lo (x :: l) u) (h : lo' ≤ lo) : OB ba sz lo' (x :: l) u := by
  obtain ⟨s1, s2⟩ := s
  exact ⟨by lia, s2⟩
theorem OB_le {ba sz : Int32 → Int32} : ∀ {l : List Int32} {lo u : Int32}, OB ba sz lo l u → 0 ≤ lo → lo ≤ 600000 → lo ≤ u ∧ u ≤ 600000 ∧ (∀ x, x ∈ l → lo ≤ ba x ∧ ba x + sz x ≤ u ∧ 0 < sz x ∧ sz x ≤ 2600 ∧ ba x ≤ 560000)
  | [], lo, u, s, h, h1 => by cases s; exact ⟨by lia, h1, fun x hx => absurd hx (by simp)⟩
  | x :: l, lo, u, s, h, h1 => by
    obtain ⟨s1, s2, s3, s4, s5⟩ := s
    obtain ⟨q1, q2, q3⟩ := OB_le s5 (by lia) (by lia)
    refine ⟨by lia, q2, fun y hy => ?_⟩
    rcases List.mem_cons.mp hy with e | e
    · subst e; exact ⟨by lia, by lia, s2, s3, s4⟩
    · have := q3 y e
      exact ⟨by lia, this.2.1, this.2.2.1, this.2.2.2⟩
theorem fl_perm {g g' : Int32 → List Int32} {c f : Int32} {fl : List Int32} (h1 : g c = f :: fl) (h2 : g' c = fl) (h3 : ∀ e, e ≠ c → g' e = g e) : ∀ {l : List Int32}, l.Nodup → c ∈ l → ((l.map g).flatten).Perm (f :: (l.map g').flatten)
  | [], _, h => absurd h (by simp)
  | a :: l, nd, h => by
    obtain ⟨n1, n2⟩ := List.nodup_cons.mp nd
    simp only [List.map_cons, List.flatten_cons]
    by_cases q : a = c
    · subst q
      have e : l.map g' = l.map g := List.map_congr_left (fun x hx => h3 x (fun z => n1 (by rw [← z]; exact hx)))
      rw [h1, h2, e]
      exact List.Perm.refl _
    · have hl : c ∈ l := by
        rcases List.mem_cons.mp h with z | z
        · exact absurd z.symm q
        · exact z
      rw [h3 a q]
      refine (List.Perm.append_left (g a) (fl_perm h1 h2 h3 n2 hl)).trans ?_
      exact List.perm_middle
theorem fAll_pop {w : WD} {xf : Int32 → List Int32} {c f : Int32} {fl : List Int32} (nc : (cX w).Nodup) (hc : c ∈ cX w) (hf : xf c = f :: fl) : (fAll w xf).Perm (f :: fAll w (fU xf c fl)) := fl_perm hf fU_s (fun _ h => fU_o h) nc hc
theorem fAll_push {w : WD} {xf : Int32 → List Int32} {c f : Int32} (nc : (cX w).Nodup) (hc : c ∈ cX w) : (fAll w (fU xf c (f :: xf c))).Perm (f :: fAll w xf) := fl_perm fU_s rfl (fun _ h => (fU_o h).symm) nc hc
theorem fAll_mem {w : WD} {xf : Int32 → List Int32} {c f : Int32} (hc : c ∈ cX w) (hf : f ∈ xf c) : f ∈ fAll w xf := List.mem_flatten.mpr ⟨xf c, List.mem_map.mpr ⟨c, hc, rfl⟩, hf⟩
def pK (k : Nat) : Bool := [326, 356, 357, 358, 359, 360, 361, 362, 363].contains k
/-- the rows of calls when the top one of c is over, whatever becomes of the blocks -/
theorem XF_pop {w : WD} {xf : Int32 → List Int32} {σ τ : mS} {c f : Int32} {fl fc bl bl' : List Int32} (nc : (cX w).Nodup) (hc : c ∈ cX w) (hp : ∀ e, e ∈ cX w → 0 ≤ e) (hf : xf c = f :: fl) (s1 : seg (sI σ 356) (sF σ 357) fc (-1)) (s2 : ∀ c, c ∈ cX w → seg (sI σ 356) (sI σ 326 c) (xf c) (-1)) (nd : (fc ++ fAll w xf).Nodup) (rg : ∀ f, f ∈ fc ++ fAll w xf → 0 ≤ f ∧ f < 202) (len : (fc ++ fAll w xf).length = 202) (bm : ∀ f, f ∈ bl ↔ f ∈ fAll w xf ∧ sI σ 349 f ≠ 0) (e356 : ∀ x, 0 ≤ x → sI τ 356 x = if x = f then sF σ 357 else sI σ 356 x) (e357 : sF τ 357 = f) (e326 : ∀ x, 0 ≤ x → sI τ 326 x = if x = c then sI σ 356 f else sI σ 326 x) (e349 : ∀ x, sI τ 349 x = sI σ 349 x) (B : BLK τ bl') (bn : bl'.Nodup) (bb : ∀ x, x ∈ bl' ↔ x ∈ bl ∧ x ≠ f) : XF w (fU xf c fl) τ := by
  have pm := fAll_pop nc hc hf
  have pm2 : (fc ++ fAll w xf).Perm (f :: fc ++ fAll w (fU xf c fl)) := (List.Perm.append_left fc pm).trans List.perm_middle
  have nd2 := (pm2.nodup_iff).mp nd
  have nf : f ∉ fc ++ fAll w (fU xf c fl) := (List.nodup_cons.mp nd2).1
  have t := s2 c hc
  rw [hf] at t
  have f0 := (rg f (pm2.mem_iff.mpr List.mem_cons_self)).1
  refine ⟨f :: fc, bl', ?_, fun e he => ?_, nd2, fun x hx => rg x (pm2.mem_iff.mpr hx), by rw [← pm2.length_eq]; exact len, B, bn, fun x => ?_⟩
  · refine ⟨e357, ?_⟩
    rw [e356 f f0, if_pos rfl]
    exact seg_congr s1 (fun x hx => by rw [e356 x (rg x (List.mem_append_left _ hx)).1, if_neg (fun q => nf (by rw [← q]; exact List.mem_append_left _ hx))])
  · have cg : ∀ x, x ∈ fU xf c fl e → sI τ 356 x = sI σ 356 x := fun x hx => by
      have m := fAll_mem (xf := fU xf c fl) he hx
      have r := rg x (pm2.mem_iff.mpr (List.mem_cons_of_mem _ (List.mem_append_right _ m)))
      rw [e356 x r.1, if_neg (fun q => nf (by rw [← q]; exact List.mem_append_right _ m))]
    rw [e326 e (hp e he)]
    by_cases q : e = c
    · subst q
      rw [if_pos rfl]
      rw [fU_s] at cg ⊢
      exact seg_congr t.2 cg
    · rw [if_neg q]
      rw [fU_o q] at cg ⊢
      exact seg_congr (s2 e he) cg
  · rw [bb, bm, e349]
    have : x ∈ fAll w xf ↔ x = f ∨ x ∈ fAll w (fU xf c fl) := by rw [pm.mem_iff, List.mem_cons]
    rw [this]
    constructor
    · rintro ⟨⟨a | a, b⟩, d⟩
      · exact absurd a d
      · exact ⟨a, b⟩
    · rintro ⟨a, b⟩
      exact ⟨⟨.inr a, b⟩, fun q => nf (by rw [← q]; exact List.mem_append_right _ a)⟩
theorem gl_snoc {A : List Int32} {y : Int32} : (A ++ [y]).getLastD (-1) = y := by simp
theorem pop_x {N : Nat} {w : WD} {xf : Int32 → List Int32} {σ : mS} {c f : Int32} {fl : List Int32} (H : XF w xf σ) (nc : (cX w).Nodup) (hc : c ∈ cX w) (hp : ∀ e, e ∈ cX w → 0 ≤ e) (c1 : c < 121) (hf : xf c = f :: fl) : ∃ τ, xx5_pop N σ c = some τ ∧ XF w (fU xf c fl) τ ∧ m_fr pK σ τ ∧ sF τ 358 = sF σ 358 - 1 ∧ (∀ x, 0 ≤ x → sI τ 326 x = if x = c then sI σ 356 f else sI σ 326 x) := by
  obtain ⟨fc, bl, s1, s2, nd, rg, len, ⟨b1, b2, b3, b4⟩, bn, bm⟩ := H
  have c0 := hp c hc
  have t := s2 c hc
  rw [hf] at t
  obtain ⟨t0, t1⟩ := t
  have fa : f ∈ fAll w xf := fAll_mem hc (by rw [hf]; exact List.mem_cons_self)
  obtain ⟨f0, f1⟩ := rg f (List.mem_append_right _ fa)
  have K := fun (τ : mS) (bl' : List Int32) => XF_pop (τ := τ) (bl' := bl') nc hc hp hf s1 s2 nd rg len bm
  by_cases hz : sI σ 349 f = 0
  · have nb : f ∉ bl := fun q => ((bm f).mp q).2 hz
    simp (disch := lia) only [xx5_pop, xx5_pop_b138, lt, gd_in, if_pos, if_neg, ↓reduceIte, gd_z0, gd_z1, gd_tt, sF_fold, sG_fold, sI_fold, sJ_fold, sF_pi, sF_pl, sF_ai, sF_al, sG_pi, sG_pl, sG_ai, sG_al, sI_pi, sI_pl, sI_al, sI_ai1, sI_ai2, sJ_pi, sJ_pl, sJ_ai, sJ_al1, sJ_al2, Nat.reduceEqDiff, if_true, if_false, ne_eq, not_false_eq_true, ite_true, ite_false, t0]
    refine ⟨_, rfl, K _ bl ?_ ?_ ?_ ?_ ⟨?_, ?_, ?_, ?_⟩ bn ?_, ?_, ?_, ?_⟩
    · intro x hx; simp (disch := lia) only [sI_ai f0 hx, sF_pi, sF_pl, sF_ai, sF_al, sG_pi, sG_pl, sG_ai, sG_al, sI_pi, sI_pl, sI_al, sI_ai1, sI_ai2, sJ_pi, sJ_pl, sJ_ai, sJ_al1, sJ_al2, Nat.reduceEqDiff, if_true, if_false, ne_eq, not_false_eq_true, ite_true, ite_false, true_and]
    · simp only [sF_pi, sF_pl, sF_ai, sF_al, sG_pi, sG_pl, sG_ai, sG_al, sI_pi, sI_pl, sI_al, sI_ai1, sI_ai2, sJ_pi, sJ_pl, sJ_ai, sJ_al1, sJ_al2, Nat.reduceEqDiff, if_true, if_false, ne_eq, not_false_eq_true, ite_true, ite_false]
    · intro x hx; simp (disch := lia) only [sI_ai c0 hx, sF_pi, sF_pl, sF_ai, sF_al, sG_pi, sG_pl, sG_ai, sG_al, sI_pi, sI_pl, sI_al, sI_ai1, sI_ai2, sJ_pi, sJ_pl, sJ_ai, sJ_al1, sJ_al2, Nat.reduceEqDiff, if_true, if_false, ne_eq, not_false_eq_true, ite_true, ite_false, true_and]
    · intro x; simp (disch := lia) only [sF_pi, sF_pl, sF_ai, sF_al, sG_pi, sG_pl, sG_ai, sG_al, sI_pi, sI_pl, sI_al, sI_ai1, sI_ai2, sJ_pi, sJ_pl, sJ_ai, sJ_al1, sJ_al2, Nat.reduceEqDiff, if_true, if_false, ne_eq, not_false_eq_true, ite_true, ite_false]
    · have e : ∀ τ : mS, (∀ m, sI τ 359 m = sI σ 359 m) → seg (sI τ 359) (sF σ 361) bl (-1) := fun τ h => seg_congr b1 (fun x _ => h x)
      simp only [sF_pi, sF_pl, sF_ai, sF_al, sG_pi, sG_pl, sG_ai, sG_al, sI_pi, sI_pl, sI_al, sI_ai1, sI_ai2, sJ_pi, sJ_pl, sJ_ai, sJ_al1, sJ_al2, Nat.reduceEqDiff, if_true, if_false, ne_eq, not_false_eq_true, ite_true, ite_false]
      exact e _ (fun m => by simp (disch := lia) only [sF_pi, sF_pl, sF_ai, sF_al, sG_pi, sG_pl, sG_ai, sG_al, sI_pi, sI_pl, sI_al, sI_ai1, sI_ai2, sJ_pi, sJ_pl, sJ_ai, sJ_al1, sJ_al2, Nat.reduceEqDiff, if_true, if_false, ne_eq, not_false_eq_true, ite_true, ite_false])
    · simp only [sF_pi, sF_pl, sF_ai, sF_al, sG_pi, sG_pl, sG_ai, sG_al, sI_pi, sI_pl, sI_al, sI_ai1, sI_ai2, sJ_pi, sJ_pl, sJ_ai, sJ_al1, sJ_al2, Nat.reduceEqDiff, if_true, if_false, ne_eq, not_false_eq_true, ite_true, ite_false]
      exact seg_congr b2 (fun x _ => by simp (disch := lia) only [sF_pi, sF_pl, sF_ai, sF_al, sG_pi, sG_pl, sG_ai, sG_al, sI_pi, sI_pl, sI_al, sI_ai1, sI_ai2, sJ_pi, sJ_pl, sJ_ai, sJ_al1, sJ_al2, Nat.reduceEqDiff, if_true, if_false, ne_eq, not_false_eq_true, ite_true, ite_false])
    · simp only [sF_pi, sF_pl, sF_ai, sF_al, sG_pi, sG_pl, sG_ai, sG_al, sI_pi, sI_pl, sI_al, sI_ai1, sI_ai2, sJ_pi, sJ_pl, sJ_ai, sJ_al1, sJ_al2, Nat.reduceEqDiff, if_true, if_false, ne_eq, not_false_eq_true, ite_true, ite_false]
      exact OB_cg b3 (fun x _ => ⟨by simp (disch := lia) only [sF_pi, sF_pl, sF_ai, sF_al, sG_pi, sG_pl, sG_ai, sG_al, sI_pi, sI_pl, sI_al, sI_ai1, sI_ai2, sJ_pi, sJ_pl, sJ_ai, sJ_al1, sJ_al2, Nat.reduceEqDiff, if_true, if_false, ne_eq, not_false_eq_true, ite_true, ite_false], by simp (disch := lia) only [sF_pi, sF_pl, sF_ai, sF_al, sG_pi, sG_pl, sG_ai, sG_al, sI_pi, sI_pl, sI_al, sI_ai1, sI_ai2, sJ_pi, sJ_pl, sJ_ai, sJ_al1, sJ_al2, Nat.reduceEqDiff, if_true, if_false, ne_eq, not_false_eq_true, ite_true, ite_false]⟩)
    · simp only [sF_pi, sF_pl, sF_ai, sF_al, sG_pi, sG_pl, sG_ai, sG_al, sI_pi, sI_pl, sI_al, sI_ai1, sI_ai2, sJ_pi, sJ_pl, sJ_ai, sJ_al1, sJ_al2, Nat.reduceEqDiff, if_true, if_false, ne_eq, not_false_eq_true, ite_true, ite_false]; exact b4
    · intro x
      exact ⟨fun q => ⟨q, fun z => nb (by rw [← z]; exact q)⟩, fun q => q.1⟩
    · exact mf_pi (mf_pi (mf_ai (mf_ai mf_rfl rfl) rfl) rfl) rfl
    · simp only [sF_pi, sF_pl, sF_ai, sF_al, sG_pi, sG_pl, sG_ai, sG_al, sI_pi, sI_pl, sI_al, sI_ai1, sI_ai2, sJ_pi, sJ_pl, sJ_ai, sJ_al1, sJ_al2, Nat.reduceEqDiff, if_true, if_false, ne_eq, not_false_eq_true, ite_true, ite_false]
    · intro x hx; simp (disch := lia) only [sI_ai c0 hx, sF_pi, sF_pl, sF_ai, sF_al, sG_pi, sG_pl, sG_ai, sG_al, sI_pi, sI_pl, sI_al, sI_ai1, sI_ai2, sJ_pi, sJ_pl, sJ_ai, sJ_al1, sJ_al2, Nat.reduceEqDiff, if_true, if_false, ne_eq, not_false_eq_true, ite_true, ite_false, true_and]
  · have fb : f ∈ bl := (bm f).mpr ⟨fa, hz⟩
    obtain ⟨A, B, hbl⟩ := List.append_of_mem fb
    have rb : ∀ x, x ∈ bl → 0 ≤ x ∧ x < 202 := fun x hx => rg x (List.mem_append_right _ ((bm x).mp hx).1)
    obtain ⟨o1, o2, o3⟩ := OB_le b3 (by decide) (by decide)
    have of := o3 f fb
    subst hbl
    have nr : (A ++ f :: B).reverse = B.reverse ++ f :: A.reverse := by simp
    rw [nr] at b2
    obtain ⟨p1, p2⟩ := seg_at b1
    obtain ⟨q1, q2⟩ := seg_at b2
    have nAB := bn
    rw [List.nodup_append] at nAB
    obtain ⟨nA, nB, nX⟩ := nAB
    obtain ⟨nfB, nB⟩ := List.nodup_cons.mp nB
    have nfA : f ∉ A := fun q => nX f q f List.mem_cons_self rfl
    have dAB : ∀ x, x ∈ A → x ∉ B := fun x hx q => nX x hx x (List.mem_cons_of_mem _ q) rfl
    have bnn : (A ++ B).Nodup := List.nodup_append.mpr ⟨nA, nB, fun x hx y hy q => dAB x hx (by rw [q]; exact hy)⟩
    have bbb : ∀ x, x ∈ A ++ B ↔ x ∈ A ++ f :: B ∧ x ≠ f := fun x => by
      simp only [List.mem_append, List.mem_cons]
      constructor
      · rintro (q | q)
        · exact ⟨.inl q, fun z => nfA (by rw [← z]; exact q)⟩
        · exact ⟨.inr (.inr q), fun z => nfB (by rw [← z]; exact q)⟩
      · rintro ⟨q | q | q, z⟩
        · exact .inl q
        · exact absurd q z
        · exact .inr q
    have nz : ¬ sI σ 349 f ≤ 0 := by lia
    rcases List.eq_nil_or_concat A with hA | ⟨A', y, hA⟩
    · subst hA
      have e1 : sF σ 361 = f := p2 rfl
      have e2 : sI σ 360 f = -1 := q1
      cases B with
      | nil =>
        have e3 : sI σ 359 f = -1 := p1
        simp (disch := lia) only [xx5_pop, xx5_pop_b90, xx5_pop_b124, xx5_pop_b138, lt, gd_in, if_pos, if_neg, ↓reduceIte, gd_z0, gd_z1, gd_tt, sF_fold, sG_fold, sI_fold, sJ_fold, sF_pi, sF_pl, sF_ai, sF_al, sG_pi, sG_pl, sG_ai, sG_al, sI_pi, sI_pl, sI_al, sI_ai1, sI_ai2, sJ_pi, sJ_pl, sJ_ai, sJ_al1, sJ_al2, Nat.reduceEqDiff, if_true, if_false, ne_eq, not_false_eq_true, ite_true, ite_false, t0, e2, e3]
        refine ⟨_, rfl, K _ [] ?_ ?_ ?_ ?_ ⟨?_, ?_, ?_, ?_⟩ List.nodup_nil bbb, ?_, ?_, ?_⟩
        · intro x hx; simp (disch := lia) only [sI_ai f0 hx, sF_pi, sF_pl, sF_ai, sF_al, sG_pi, sG_pl, sG_ai, sG_al, sI_pi, sI_pl, sI_al, sI_ai1, sI_ai2, sJ_pi, sJ_pl, sJ_ai, sJ_al1, sJ_al2, Nat.reduceEqDiff, if_true, if_false, ne_eq, not_false_eq_true, ite_true, ite_false, true_and]
        · simp only [sF_pi, sF_pl, sF_ai, sF_al, sG_pi, sG_pl, sG_ai, sG_al, sI_pi, sI_pl, sI_al, sI_ai1, sI_ai2, sJ_pi, sJ_pl, sJ_ai, sJ_al1, sJ_al2, Nat.reduceEqDiff, if_true, if_false, ne_eq, not_false_eq_true, ite_true, ite_false]
        · intro x hx; simp (disch := lia) only [sI_ai c0 hx, sF_pi, sF_pl, sF_ai, sF_al, sG_pi, sG_pl, sG_ai, sG_al, sI_pi, sI_pl, sI_al, sI_ai1, sI_ai2, sJ_pi, sJ_pl, sJ_ai, sJ_al1, sJ_al2, Nat.reduceEqDiff, if_true, if_false, ne_eq, not_false_eq_true, ite_true, ite_false, true_and]
        · intro x; simp (disch := lia) only [sF_pi, sF_pl, sF_ai, sF_al, sG_pi, sG_pl, sG_ai, sG_al, sI_pi, sI_pl, sI_al, sI_ai1, sI_ai2, sJ_pi, sJ_pl, sJ_ai, sJ_al1, sJ_al2, Nat.reduceEqDiff, if_true, if_false, ne_eq, not_false_eq_true, ite_true, ite_false]
        · simp only [sF_pi, sF_pl, sF_ai, sF_al, sG_pi, sG_pl, sG_ai, sG_al, sI_pi, sI_pl, sI_al, sI_ai1, sI_ai2, sJ_pi, sJ_pl, sJ_ai, sJ_al1, sJ_al2, Nat.reduceEqDiff, if_true, if_false, ne_eq, not_false_eq_true, ite_true, ite_false]; rfl
        · simp only [sF_pi, sF_pl, sF_ai, sF_al, sG_pi, sG_pl, sG_ai, sG_al, sI_pi, sI_pl, sI_al, sI_ai1, sI_ai2, sJ_pi, sJ_pl, sJ_ai, sJ_al1, sJ_al2, Nat.reduceEqDiff, if_true, if_false, ne_eq, not_false_eq_true, ite_true, ite_false]; rfl
        · simp only [sF_pi, sF_pl, sF_ai, sF_al, sG_pi, sG_pl, sG_ai, sG_al, sI_pi, sI_pl, sI_al, sI_ai1, sI_ai2, sJ_pi, sJ_pl, sJ_ai, sJ_al1, sJ_al2, Nat.reduceEqDiff, if_true, if_false, ne_eq, not_false_eq_true, ite_true, ite_false]; rfl
        · simp only [sF_pi, sF_pl, sF_ai, sF_al, sG_pi, sG_pl, sG_ai, sG_al, sI_pi, sI_pl, sI_al, sI_ai1, sI_ai2, sJ_pi, sJ_pl, sJ_ai, sJ_al1, sJ_al2, Nat.reduceEqDiff, if_true, if_false, ne_eq, not_false_eq_true, ite_true, ite_false]; decide
        · exact mf_pi (mf_pi (mf_pi (mf_pi (mf_pi (mf_ai (mf_ai mf_rfl rfl) rfl) rfl) rfl) rfl) rfl) rfl
        · simp only [sF_pi, sF_pl, sF_ai, sF_al, sG_pi, sG_pl, sG_ai, sG_al, sI_pi, sI_pl, sI_al, sI_ai1, sI_ai2, sJ_pi, sJ_pl, sJ_ai, sJ_al1, sJ_al2, Nat.reduceEqDiff, if_true, if_false, ne_eq, not_false_eq_true, ite_true, ite_false]
        · intro x hx; simp (disch := lia) only [sI_ai c0 hx, sF_pi, sF_pl, sF_ai, sF_al, sG_pi, sG_pl, sG_ai, sG_al, sI_pi, sI_pl, sI_al, sI_ai1, sI_ai2, sJ_pi, sJ_pl, sJ_ai, sJ_al1, sJ_al2, Nat.reduceEqDiff, if_true, if_false, ne_eq, not_false_eq_true, ite_true, ite_false, true_and]
      | cons z B =>
        have e3 : sI σ 359 f = z := p1.1
        obtain ⟨z0, z1⟩ := rb z (by simp)
        have b2' : seg (sI σ 360) (sF σ 362) (B.reverse ++ z :: f :: []) (-1) := by simpa using b2
        simp (disch := lia) only [xx5_pop, xx5_pop_b90, xx5_pop_b124, xx5_pop_b138, lt, gd_in, if_pos, if_neg, ↓reduceIte, gd_z0, gd_z1, gd_tt, sF_fold, sG_fold, sI_fold, sJ_fold, sF_pi, sF_pl, sF_ai, sF_al, sG_pi, sG_pl, sG_ai, sG_al, sI_pi, sI_pl, sI_al, sI_ai1, sI_ai2, sJ_pi, sJ_pl, sJ_ai, sJ_al1, sJ_al2, Nat.reduceEqDiff, if_true, if_false, ne_eq, not_false_eq_true, ite_true, ite_false, t0, e2, e3]
        refine ⟨_, rfl, K _ (z :: B) ?_ ?_ ?_ ?_ ⟨?_, ?_, ?_, ?_⟩ nB bbb, ?_, ?_, ?_⟩
        · intro x hx; simp (disch := lia) only [sI_ai f0 hx, sF_pi, sF_pl, sF_ai, sF_al, sG_pi, sG_pl, sG_ai, sG_al, sI_pi, sI_pl, sI_al, sI_ai1, sI_ai2, sJ_pi, sJ_pl, sJ_ai, sJ_al1, sJ_al2, Nat.reduceEqDiff, if_true, if_false, ne_eq, not_false_eq_true, ite_true, ite_false, true_and]
        · simp only [sF_pi, sF_pl, sF_ai, sF_al, sG_pi, sG_pl, sG_ai, sG_al, sI_pi, sI_pl, sI_al, sI_ai1, sI_ai2, sJ_pi, sJ_pl, sJ_ai, sJ_al1, sJ_al2, Nat.reduceEqDiff, if_true, if_false, ne_eq, not_false_eq_true, ite_true, ite_false]
        · intro x hx; simp (disch := lia) only [sI_ai c0 hx, sF_pi, sF_pl, sF_ai, sF_al, sG_pi, sG_pl, sG_ai, sG_al, sI_pi, sI_pl, sI_al, sI_ai1, sI_ai2, sJ_pi, sJ_pl, sJ_ai, sJ_al1, sJ_al2, Nat.reduceEqDiff, if_true, if_false, ne_eq, not_false_eq_true, ite_true, ite_false, true_and]
        · intro x; simp (disch := lia) only [sF_pi, sF_pl, sF_ai, sF_al, sG_pi, sG_pl, sG_ai, sG_al, sI_pi, sI_pl, sI_al, sI_ai1, sI_ai2, sJ_pi, sJ_pl, sJ_ai, sJ_al1, sJ_al2, Nat.reduceEqDiff, if_true, if_false, ne_eq, not_false_eq_true, ite_true, ite_false]
        · simp only [sF_pi, sF_pl, sF_ai, sF_al, sG_pi, sG_pl, sG_ai, sG_al, sI_pi, sI_pl, sI_al, sI_ai1, sI_ai2, sJ_pi, sJ_pl, sJ_ai, sJ_al1, sJ_al2, Nat.reduceEqDiff, if_true, if_false, ne_eq, not_false_eq_true, ite_true, ite_false]
          rw [e3] at p1
          exact seg_congr p1 (fun x _ => by simp (disch := lia) only [sF_pi, sF_pl, sF_ai, sF_al, sG_pi, sG_pl, sG_ai, sG_al, sI_pi, sI_pl, sI_al, sI_ai1, sI_ai2, sJ_pi, sJ_pl, sJ_ai, sJ_al1, sJ_al2, Nat.reduceEqDiff, if_true, if_false, ne_eq, not_false_eq_true, ite_true, ite_false])
        · simp only [sF_pi, sF_pl, sF_ai, sF_al, sG_pi, sG_pl, sG_ai, sG_al, sI_pi, sI_pl, sI_al, sI_ai1, sI_ai2, sJ_pi, sJ_pl, sJ_ai, sJ_al1, sJ_al2, Nat.reduceEqDiff, if_true, if_false, ne_eq, not_false_eq_true, ite_true, ite_false]
          have : (z :: B).reverse = B.reverse ++ z :: [] := by simp
          rw [this]
          refine seg_del1 b2' (by simp (disch := lia) only [sF_pi, sF_pl, sF_ai, sF_al, sG_pi, sG_pl, sG_ai, sG_al, sI_pi, sI_pl, sI_al, sI_ai1, sI_ai2, sJ_pi, sJ_pl, sJ_ai, sJ_al1, sJ_al2, Nat.reduceEqDiff, if_true, if_false, ne_eq, not_false_eq_true, ite_true, ite_false, e2]) (fun x hx => ?_)
          have hx' : x ∈ B := by simpa using hx
          have xz : x ≠ z := fun q => (List.nodup_cons.mp nB).1 (by rw [← q]; exact hx')
          have x0 := (rb x (by simp [hx'])).1
          simp (disch := lia) only [sF_pi, sF_pl, sF_ai, sF_al, sG_pi, sG_pl, sG_ai, sG_al, sI_pi, sI_pl, sI_al, sI_ai1, sI_ai2, sJ_pi, sJ_pl, sJ_ai, sJ_al1, sJ_al2, Nat.reduceEqDiff, if_true, if_false, ne_eq, not_false_eq_true, ite_true, ite_false, sI_ai z0 x0, true_and, if_neg xz]
        · simp only [sF_pi, sF_pl, sF_ai, sF_al, sG_pi, sG_pl, sG_ai, sG_al, sI_pi, sI_pl, sI_al, sI_ai1, sI_ai2, sJ_pi, sJ_pl, sJ_ai, sJ_al1, sJ_al2, Nat.reduceEqDiff, if_true, if_false, ne_eq, not_false_eq_true, ite_true, ite_false]
          refine OB_cg (ba := sI σ 347) (sz := sI σ 349) ?_ (fun x _ => ⟨by simp (disch := lia) only [sF_pi, sF_pl, sF_ai, sF_al, sG_pi, sG_pl, sG_ai, sG_al, sI_pi, sI_pl, sI_al, sI_ai1, sI_ai2, sJ_pi, sJ_pl, sJ_ai, sJ_al1, sJ_al2, Nat.reduceEqDiff, if_true, if_false, ne_eq, not_false_eq_true, ite_true, ite_false], by simp (disch := lia) only [sF_pi, sF_pl, sF_ai, sF_al, sG_pi, sG_pl, sG_ai, sG_al, sI_pi, sI_pl, sI_al, sI_ai1, sI_ai2, sJ_pi, sJ_pl, sJ_ai, sJ_al1, sJ_al2, Nat.reduceEqDiff, if_true, if_false, ne_eq, not_false_eq_true, ite_true, ite_false]⟩)
          have := b3.2.2.2.2
          exact OB_lo this (by have := b3.1; have := b3.2.1; have := b3.2.2.2.1; have := b3.2.2.1; lia)
        · simp only [sF_pi, sF_pl, sF_ai, sF_al, sG_pi, sG_pl, sG_ai, sG_al, sI_pi, sI_pl, sI_al, sI_ai1, sI_ai2, sJ_pi, sJ_pl, sJ_ai, sJ_al1, sJ_al2, Nat.reduceEqDiff, if_true, if_false, ne_eq, not_false_eq_true, ite_true, ite_false]; exact b4
        · exact mf_ai (mf_pi (mf_pi (mf_pi (mf_ai (mf_ai mf_rfl rfl) rfl) rfl) rfl) rfl) rfl
        · simp only [sF_pi, sF_pl, sF_ai, sF_al, sG_pi, sG_pl, sG_ai, sG_al, sI_pi, sI_pl, sI_al, sI_ai1, sI_ai2, sJ_pi, sJ_pl, sJ_ai, sJ_al1, sJ_al2, Nat.reduceEqDiff, if_true, if_false, ne_eq, not_false_eq_true, ite_true, ite_false]
        · intro x hx; simp (disch := lia) only [sI_ai c0 hx, sF_pi, sF_pl, sF_ai, sF_al, sG_pi, sG_pl, sG_ai, sG_al, sI_pi, sI_pl, sI_al, sI_ai1, sI_ai2, sJ_pi, sJ_pl, sJ_ai, sJ_al1, sJ_al2, Nat.reduceEqDiff, if_true, if_false, ne_eq, not_false_eq_true, ite_true, ite_false, true_and]
    · simp only [List.concat_eq_append] at hA
      subst hA
      obtain ⟨y0, y1⟩ := rb y (by simp)
      have yf : y ≠ f := fun q => nfA (by rw [q]; simp)
      have e2 : sI σ 360 f = y := by
        have : (A' ++ [y]).reverse = y :: A'.reverse := by simp
        rw [this] at q1
        exact q1.1
      have yA : y ∉ A' := fun q => (List.nodup_append.mp nA).2.2 y q y (by simp) rfl
      have b1' : seg (sI σ 359) (sF σ 361) (A' ++ y :: f :: B) (-1) := by simpa using b1
      obtain ⟨m3, b3a, b3b⟩ := OB_app.mp b3
      obtain ⟨m4, b3c, b3d⟩ := OB_app.mp b3a
      have b3e : sI σ 347 y + sI σ 349 y = m3 := b3d.2.2.2.2
      have oy := o3 y (by simp)
      cases B with
      | nil =>
        have e3 : sI σ 359 f = -1 := p1
        simp (disch := lia) only [xx5_pop, xx5_pop_b90, xx5_pop_b124, xx5_pop_b138, lt, gd_in, if_pos, if_neg, ↓reduceIte, gd_z0, gd_z1, gd_tt, sF_fold, sG_fold, sI_fold, sJ_fold, sF_pi, sF_pl, sF_ai, sF_al, sG_pi, sG_pl, sG_ai, sG_al, sI_pi, sI_pl, sI_al, sI_ai1, sI_ai2, sJ_pi, sJ_pl, sJ_ai, sJ_al1, sJ_al2, Nat.reduceEqDiff, if_true, if_false, ne_eq, not_false_eq_true, ite_true, ite_false, t0, e2, e3]
        refine ⟨_, rfl, K _ (A' ++ [y]) ?_ ?_ ?_ ?_ ⟨?_, ?_, ?_, ?_⟩ nA (by simpa using bbb), ?_, ?_, ?_⟩
        · intro x hx; simp (disch := lia) only [sI_ai f0 hx, sF_pi, sF_pl, sF_ai, sF_al, sG_pi, sG_pl, sG_ai, sG_al, sI_pi, sI_pl, sI_al, sI_ai1, sI_ai2, sJ_pi, sJ_pl, sJ_ai, sJ_al1, sJ_al2, Nat.reduceEqDiff, if_true, if_false, ne_eq, not_false_eq_true, ite_true, ite_false, true_and]
        · simp only [sF_pi, sF_pl, sF_ai, sF_al, sG_pi, sG_pl, sG_ai, sG_al, sI_pi, sI_pl, sI_al, sI_ai1, sI_ai2, sJ_pi, sJ_pl, sJ_ai, sJ_al1, sJ_al2, Nat.reduceEqDiff, if_true, if_false, ne_eq, not_false_eq_true, ite_true, ite_false]
        · intro x hx; simp (disch := lia) only [sI_ai c0 hx, sF_pi, sF_pl, sF_ai, sF_al, sG_pi, sG_pl, sG_ai, sG_al, sI_pi, sI_pl, sI_al, sI_ai1, sI_ai2, sJ_pi, sJ_pl, sJ_ai, sJ_al1, sJ_al2, Nat.reduceEqDiff, if_true, if_false, ne_eq, not_false_eq_true, ite_true, ite_false, true_and]
        · intro x; simp (disch := lia) only [sF_pi, sF_pl, sF_ai, sF_al, sG_pi, sG_pl, sG_ai, sG_al, sI_pi, sI_pl, sI_al, sI_ai1, sI_ai2, sJ_pi, sJ_pl, sJ_ai, sJ_al1, sJ_al2, Nat.reduceEqDiff, if_true, if_false, ne_eq, not_false_eq_true, ite_true, ite_false]
        · simp only [sF_pi, sF_pl, sF_ai, sF_al, sG_pi, sG_pl, sG_ai, sG_al, sI_pi, sI_pl, sI_al, sI_ai1, sI_ai2, sJ_pi, sJ_pl, sJ_ai, sJ_al1, sJ_al2, Nat.reduceEqDiff, if_true, if_false, ne_eq, not_false_eq_true, ite_true, ite_false]
          have b1'' : seg (sI σ 359) (sF σ 361) (A' ++ y :: f :: []) (-1) := b1'
          refine seg_del1 b1'' (by simp (disch := lia) only [sF_pi, sF_pl, sF_ai, sF_al, sG_pi, sG_pl, sG_ai, sG_al, sI_pi, sI_pl, sI_al, sI_ai1, sI_ai2, sJ_pi, sJ_pl, sJ_ai, sJ_al1, sJ_al2, Nat.reduceEqDiff, if_true, if_false, ne_eq, not_false_eq_true, ite_true, ite_false, e3]) (fun x hx => ?_)
          have hx' : x ∈ A' := by simpa using hx
          have xz : x ≠ y := fun q => yA (by rw [← q]; exact hx')
          have x0 := (rb x (by simp [hx'])).1
          simp (disch := lia) only [sF_pi, sF_pl, sF_ai, sF_al, sG_pi, sG_pl, sG_ai, sG_al, sI_pi, sI_pl, sI_al, sI_ai1, sI_ai2, sJ_pi, sJ_pl, sJ_ai, sJ_al1, sJ_al2, Nat.reduceEqDiff, if_true, if_false, ne_eq, not_false_eq_true, ite_true, ite_false, sI_ai y0 x0, true_and, if_neg xz]
        · simp only [sF_pi, sF_pl, sF_ai, sF_al, sG_pi, sG_pl, sG_ai, sG_al, sI_pi, sI_pl, sI_al, sI_ai1, sI_ai2, sJ_pi, sJ_pl, sJ_ai, sJ_al1, sJ_al2, Nat.reduceEqDiff, if_true, if_false, ne_eq, not_false_eq_true, ite_true, ite_false]
          have q1' := q1
          rw [e2] at q1'
          exact seg_congr q1' (fun x _ => by simp (disch := lia) only [sF_pi, sF_pl, sF_ai, sF_al, sG_pi, sG_pl, sG_ai, sG_al, sI_pi, sI_pl, sI_al, sI_ai1, sI_ai2, sJ_pi, sJ_pl, sJ_ai, sJ_al1, sJ_al2, Nat.reduceEqDiff, if_true, if_false, ne_eq, not_false_eq_true, ite_true, ite_false])
        · simp only [sF_pi, sF_pl, sF_ai, sF_al, sG_pi, sG_pl, sG_ai, sG_al, sI_pi, sI_pl, sI_al, sI_ai1, sI_ai2, sJ_pi, sJ_pl, sJ_ai, sJ_al1, sJ_al2, Nat.reduceEqDiff, if_true, if_false, ne_eq, not_false_eq_true, ite_true, ite_false]
          refine OB_cg (ba := sI σ 347) (sz := sI σ 349) ?_ (fun x _ => ⟨by simp (disch := lia) only [sF_pi, sF_pl, sF_ai, sF_al, sG_pi, sG_pl, sG_ai, sG_al, sI_pi, sI_pl, sI_al, sI_ai1, sI_ai2, sJ_pi, sJ_pl, sJ_ai, sJ_al1, sJ_al2, Nat.reduceEqDiff, if_true, if_false, ne_eq, not_false_eq_true, ite_true, ite_false], by simp (disch := lia) only [sF_pi, sF_pl, sF_ai, sF_al, sG_pi, sG_pl, sG_ai, sG_al, sI_pi, sI_pl, sI_al, sI_ai1, sI_ai2, sJ_pi, sJ_pl, sJ_ai, sJ_al1, sJ_al2, Nat.reduceEqDiff, if_true, if_false, ne_eq, not_false_eq_true, ite_true, ite_false]⟩)
          rw [b3e]
          exact b3a
        · simp only [sF_pi, sF_pl, sF_ai, sF_al, sG_pi, sG_pl, sG_ai, sG_al, sI_pi, sI_pl, sI_al, sI_ai1, sI_ai2, sJ_pi, sJ_pl, sJ_ai, sJ_al1, sJ_al2, Nat.reduceEqDiff, if_true, if_false, ne_eq, not_false_eq_true, ite_true, ite_false]; lia
        · exact mf_pi (mf_pi (mf_ai (mf_pi (mf_pi (mf_ai (mf_ai mf_rfl rfl) rfl) rfl) rfl) rfl) rfl) rfl
        · simp only [sF_pi, sF_pl, sF_ai, sF_al, sG_pi, sG_pl, sG_ai, sG_al, sI_pi, sI_pl, sI_al, sI_ai1, sI_ai2, sJ_pi, sJ_pl, sJ_ai, sJ_al1, sJ_al2, Nat.reduceEqDiff, if_true, if_false, ne_eq, not_false_eq_true, ite_true, ite_false]
        · intro x hx; simp (disch := lia) only [sI_ai c0 hx, sF_pi, sF_pl, sF_ai, sF_al, sG_pi, sG_pl, sG_ai, sG_al, sI_pi, sI_pl, sI_al, sI_ai1, sI_ai2, sJ_pi, sJ_pl, sJ_ai, sJ_al1, sJ_al2, Nat.reduceEqDiff, if_true, if_false, ne_eq, not_false_eq_true, ite_true, ite_false, true_and]
      | cons z B =>
        have e3 : sI σ 359 f = z := p1.1
        obtain ⟨z0, z1⟩ := rb z (by simp)
        have b2' : seg (sI σ 360) (sF σ 362) (B.reverse ++ z :: f :: (A' ++ [y]).reverse) (-1) := by simpa using b2
        simp (disch := lia) only [xx5_pop, xx5_pop_b90, xx5_pop_b124, xx5_pop_b138, lt, gd_in, if_pos, if_neg, ↓reduceIte, gd_z0, gd_z1, gd_tt, sF_fold, sG_fold, sI_fold, sJ_fold, sF_pi, sF_pl, sF_ai, sF_al, sG_pi, sG_pl, sG_ai, sG_al, sI_pi, sI_pl, sI_al, sI_ai1, sI_ai2, sJ_pi, sJ_pl, sJ_ai, sJ_al1, sJ_al2, Nat.reduceEqDiff, if_true, if_false, ne_eq, not_false_eq_true, ite_true, ite_false, t0, e2, e3]
        refine ⟨_, rfl, K _ (A' ++ [y] ++ z :: B) ?_ ?_ ?_ ?_ ⟨?_, ?_, ?_, ?_⟩ bnn bbb, ?_, ?_, ?_⟩
        · intro x hx; simp (disch := lia) only [sI_ai f0 hx, sF_pi, sF_pl, sF_ai, sF_al, sG_pi, sG_pl, sG_ai, sG_al, sI_pi, sI_pl, sI_al, sI_ai1, sI_ai2, sJ_pi, sJ_pl, sJ_ai, sJ_al1, sJ_al2, Nat.reduceEqDiff, if_true, if_false, ne_eq, not_false_eq_true, ite_true, ite_false, true_and]
        · simp only [sF_pi, sF_pl, sF_ai, sF_al, sG_pi, sG_pl, sG_ai, sG_al, sI_pi, sI_pl, sI_al, sI_ai1, sI_ai2, sJ_pi, sJ_pl, sJ_ai, sJ_al1, sJ_al2, Nat.reduceEqDiff, if_true, if_false, ne_eq, not_false_eq_true, ite_true, ite_false]
        · intro x hx; simp (disch := lia) only [sI_ai c0 hx, sF_pi, sF_pl, sF_ai, sF_al, sG_pi, sG_pl, sG_ai, sG_al, sI_pi, sI_pl, sI_al, sI_ai1, sI_ai2, sJ_pi, sJ_pl, sJ_ai, sJ_al1, sJ_al2, Nat.reduceEqDiff, if_true, if_false, ne_eq, not_false_eq_true, ite_true, ite_false, true_and]
        · intro x; simp (disch := lia) only [sF_pi, sF_pl, sF_ai, sF_al, sG_pi, sG_pl, sG_ai, sG_al, sI_pi, sI_pl, sI_al, sI_ai1, sI_ai2, sJ_pi, sJ_pl, sJ_ai, sJ_al1, sJ_al2, Nat.reduceEqDiff, if_true, if_false, ne_eq, not_false_eq_true, ite_true, ite_false]
        · simp only [sF_pi, sF_pl, sF_ai, sF_al, sG_pi, sG_pl, sG_ai, sG_al, sI_pi, sI_pl, sI_al, sI_ai1, sI_ai2, sJ_pi, sJ_pl, sJ_ai, sJ_al1, sJ_al2, Nat.reduceEqDiff, if_true, if_false, ne_eq, not_false_eq_true, ite_true, ite_false]
          have : A' ++ [y] ++ z :: B = A' ++ y :: z :: B := by simp
          rw [this]
          refine seg_del1 b1' (by simp (disch := lia) only [sF_pi, sF_pl, sF_ai, sF_al, sG_pi, sG_pl, sG_ai, sG_al, sI_pi, sI_pl, sI_al, sI_ai1, sI_ai2, sJ_pi, sJ_pl, sJ_ai, sJ_al1, sJ_al2, Nat.reduceEqDiff, if_true, if_false, ne_eq, not_false_eq_true, ite_true, ite_false, e3]) (fun x hx => ?_)
          have xz : x ≠ y := fun q => by
            subst q
            rcases List.mem_append.mp hx with q | q
            · exact yA q
            · exact dAB x (by simp) q
          have x0 : 0 ≤ x := by
            rcases List.mem_append.mp hx with q | q
            · exact (rb x (by simp [q])).1
            · exact (rb x (by simp only [List.mem_append, List.mem_cons]; exact .inr (.inr (List.mem_cons.mp q)))).1
          simp (disch := lia) only [sF_pi, sF_pl, sF_ai, sF_al, sG_pi, sG_pl, sG_ai, sG_al, sI_pi, sI_pl, sI_al, sI_ai1, sI_ai2, sJ_pi, sJ_pl, sJ_ai, sJ_al1, sJ_al2, Nat.reduceEqDiff, if_true, if_false, ne_eq, not_false_eq_true, ite_true, ite_false, sI_ai y0 x0, true_and, if_neg xz]
        · simp only [sF_pi, sF_pl, sF_ai, sF_al, sG_pi, sG_pl, sG_ai, sG_al, sI_pi, sI_pl, sI_al, sI_ai1, sI_ai2, sJ_pi, sJ_pl, sJ_ai, sJ_al1, sJ_al2, Nat.reduceEqDiff, if_true, if_false, ne_eq, not_false_eq_true, ite_true, ite_false]
          have : (A' ++ [y] ++ z :: B).reverse = B.reverse ++ z :: (A' ++ [y]).reverse := by simp
          rw [this]
          refine seg_del1 b2' (by simp (disch := lia) only [sF_pi, sF_pl, sF_ai, sF_al, sG_pi, sG_pl, sG_ai, sG_al, sI_pi, sI_pl, sI_al, sI_ai1, sI_ai2, sJ_pi, sJ_pl, sJ_ai, sJ_al1, sJ_al2, Nat.reduceEqDiff, if_true, if_false, ne_eq, not_false_eq_true, ite_true, ite_false, e2]) (fun x hx => ?_)
          have hx2 : x ∈ B ∨ x ∈ A' ++ [y] := by
            rcases List.mem_append.mp hx with q | q
            · exact .inl (List.mem_reverse.mp q)
            · exact .inr (List.mem_reverse.mp q)
          have xz : x ≠ z := fun q => by
            subst q
            rcases hx2 with q | q
            · exact (List.nodup_cons.mp nB).1 q
            · exact dAB x q List.mem_cons_self
          have x0 : 0 ≤ x := by
            rcases hx2 with q | q
            · exact (rb x (by simp only [List.mem_append, List.mem_cons]; exact .inr (.inr (.inr q)))).1
            · exact (rb x (List.mem_append_left _ q)).1
          simp (disch := lia) only [sF_pi, sF_pl, sF_ai, sF_al, sG_pi, sG_pl, sG_ai, sG_al, sI_pi, sI_pl, sI_al, sI_ai1, sI_ai2, sJ_pi, sJ_pl, sJ_ai, sJ_al1, sJ_al2, Nat.reduceEqDiff, if_true, if_false, ne_eq, not_false_eq_true, ite_true, ite_false, sI_ai z0 x0, true_and, if_neg xz]
        · simp only [sF_pi, sF_pl, sF_ai, sF_al, sG_pi, sG_pl, sG_ai, sG_al, sI_pi, sI_pl, sI_al, sI_ai1, sI_ai2, sJ_pi, sJ_pl, sJ_ai, sJ_al1, sJ_al2, Nat.reduceEqDiff, if_true, if_false, ne_eq, not_false_eq_true, ite_true, ite_false]
          refine OB_cg (ba := sI σ 347) (sz := sI σ 349) (OB_app.mpr ⟨m3, b3a, ?_⟩) (fun x _ => ⟨by simp (disch := lia) only [sF_pi, sF_pl, sF_ai, sF_al, sG_pi, sG_pl, sG_ai, sG_al, sI_pi, sI_pl, sI_al, sI_ai1, sI_ai2, sJ_pi, sJ_pl, sJ_ai, sJ_al1, sJ_al2, Nat.reduceEqDiff, if_true, if_false, ne_eq, not_false_eq_true, ite_true, ite_false], by simp (disch := lia) only [sF_pi, sF_pl, sF_ai, sF_al, sG_pi, sG_pl, sG_ai, sG_al, sI_pi, sI_pl, sI_al, sI_ai1, sI_ai2, sJ_pi, sJ_pl, sJ_ai, sJ_al1, sJ_al2, Nat.reduceEqDiff, if_true, if_false, ne_eq, not_false_eq_true, ite_true, ite_false]⟩)
          have := b3b.2.2.2.2
          exact OB_lo this (by have := b3b.1; have := b3b.2.1; have := b3b.2.2.2.1; have := b3b.2.2.1; lia)
        · simp only [sF_pi, sF_pl, sF_ai, sF_al, sG_pi, sG_pl, sG_ai, sG_al, sI_pi, sI_pl, sI_al, sI_ai1, sI_ai2, sJ_pi, sJ_pl, sJ_ai, sJ_al1, sJ_al2, Nat.reduceEqDiff, if_true, if_false, ne_eq, not_false_eq_true, ite_true, ite_false]; exact b4
        · exact mf_ai (mf_ai (mf_pi (mf_pi (mf_ai (mf_ai mf_rfl rfl) rfl) rfl) rfl) rfl) rfl
        · simp only [sF_pi, sF_pl, sF_ai, sF_al, sG_pi, sG_pl, sG_ai, sG_al, sI_pi, sI_pl, sI_al, sI_ai1, sI_ai2, sJ_pi, sJ_pl, sJ_ai, sJ_al1, sJ_al2, Nat.reduceEqDiff, if_true, if_false, ne_eq, not_false_eq_true, ite_true, ite_false]
        · intro x hx; simp (disch := lia) only [sI_ai c0 hx, sF_pi, sF_pl, sF_ai, sF_al, sG_pi, sG_pl, sG_ai, sG_al, sI_pi, sI_pl, sI_al, sI_ai1, sI_ai2, sJ_pi, sJ_pl, sJ_ai, sJ_al1, sJ_al2, Nat.reduceEqDiff, if_true, if_false, ne_eq, not_false_eq_true, ite_true, ite_false, true_and]
