/-! LAYER 2: the system's collector: a table is dropped -/
theorem drop_lp {N : Nat} (hN : BIG ≤ N) {ts : List Int32} {es : Int32 → List Int32} {t : Int32} (ht : t ∈ ts) (t0 : 0 ≤ t) (t1 : t < 3000) : ∀ (R : List Int32) (n : Nat) (σ : mS) (ps : Int32 → List Int32) (ff : List Int32) (v : Int32), R.length < n → FX σ ts (fU es t R) ps → (∀ s, s ∈ ts → s ≠ t → ∀ x, x ∈ R → x ∉ es s) → seg (sI σ 217) v R (-1) → R.Nodup → seg (sI σ 217) (sF σ 219) ff (-1) → (∀ x, x ∈ ff → 0 ≤ x ∧ x ∉ R) → 0 ≤ (sF σ 220).toInt - R.length → ∃ τ ps' ff', xx3_drop_b12 N n t v σ = some (md_pi (md_pi (md_ai τ 209 t.toNatClampNeg (sF τ 210)) 210 t) 211 (sF τ 211 - 1)) ∧ FX τ ts (fU es t []) ps' ∧ seg (sI τ 217) (sF τ 219) ff' (-1) ∧ ff'.Perm (R ++ ff) ∧ (sF τ 220).toInt = (sF σ 220).toInt - R.length ∧ m_fr hW σ τ ∧ (∀ x, 0 ≤ x → x ∉ R → sI τ 217 x = sI σ 217 x)
  | [], n, σ, ps, ff, v, hn, F, dj, s2, nd, s3, hf, _ => by
    obtain ⟨n, rfl⟩ : ∃ j, n = j + 1 := ⟨n - 1, by simp at hn; omega⟩
    have hv : v = -1 := s2
    subst hv
    refine ⟨σ, ps, ff, ?_, F, s3, List.Perm.refl _, by simp, mf_rfl, fun x _ _ => rfl⟩
    rw [xx3_drop_b12, if_pos rfl, gd_in (by decide) t0 t1]
    rfl
  | e :: R, n, σ, ps, ff, v, hn, F, dj, s2, nd, s3, hf, cn => by
    obtain ⟨n, rfl⟩ : ∃ j, n = j + 1 := ⟨n - 1, by simp at hn; omega⟩
    obtain ⟨hv, s2'⟩ := s2
    subst hv
    have me : v ∈ fU es t (v :: R) t := by rw [fU_s]; simp
    obtain ⟨e0, e1, _, _⟩ := F.1 t ht v me
    obtain ⟨vR, ndR⟩ := List.nodup_cons.mp nd
    obtain ⟨τ, ps', r1, r2, r3, r4, r5, r6⟩ := release_x hN F ht (e := v) (A := []) (B := R) (by rw [fU_s]; rfl) (fun s hs hst q => by rw [fU_o hst] at q; exact dj s hs hst v (by simp) q) (by simpa using vR)
    rw [fU_fU, List.nil_append] at r2
    have o217 : ∀ x, 0 ≤ x → x ≠ v → sI τ 217 x = sI σ 217 x := fun x x0 x1 => by rw [r3 x x0, if_neg x1]
    have pos : ∀ x, x ∈ R → 0 ≤ x := fun x hx => (F.1 t ht x (by rw [fU_s]; simp [hx])).1
    have one : (1 : Int32).toInt = 1 := rfl
    simp only [List.length_cons] at cn
    have u := tI_rng (sF σ 220)
    have c220 : (sF τ 220).toInt = (sF σ 220).toInt - 1 := by
      rw [r5, tI_sub (by rw [one]; omega) (by rw [one]; omega), one]
    have vff : v ∉ ff := fun q => (hf v q).2 List.mem_cons_self
    obtain ⟨τ2, ps2, ff2, h1, h2, h3, h4, h5, h6, h7⟩ := drop_lp hN ht t0 t1 R n τ ps' (v :: ff) (sI σ 217 v) (by simp at hn; omega) r2 (fun s hs hst x hx => dj s hs hst x (by simp [hx])) (seg_congr s2' (fun x hx => o217 x (pos x hx) (fun q => vR (by rw [← q]; exact hx)))) ndR (by
      rw [r4]
      refine ⟨rfl, ?_⟩
      rw [r3 v e0, if_pos rfl]
      exact seg_congr s3 (fun x hx => o217 x (hf x hx).1 (fun q => vff (by rw [← q]; exact hx)))) (fun x hx => by
      rcases List.mem_cons.mp hx with w | w
      · rw [w]; exact ⟨e0, vR⟩
      · exact ⟨(hf x w).1, fun q => (hf x w).2 (List.mem_cons_of_mem _ q)⟩) (by rw [c220]; omega)
    refine ⟨τ2, ps2, ff2, ?_, h2, h3, h4.trans List.perm_middle, by rw [h5, c220, List.length_cons]; push_cast; omega, mf_tr r6 h6, fun x x0 hx => ?_⟩
    · rw [← h1, xx3_drop_b12, if_neg (fun q => by rw [q] at e0; exact absurd e0 (by decide)), gd_in (by decide) e0 e1]
      simp only [lt, sI_fold]
      rw [r1]
      rfl
    · rw [List.mem_cons, not_or] at hx
      rw [h7 x x0 hx.2, o217 x x0 hx.1]
def rmv (ts : List Int32) (t : Int32) : List Int32 := ts.filter (fun s => decide (s ≠ t))
theorem rmv_m {ts : List Int32} {t s : Int32} : s ∈ rmv ts t ↔ s ∈ ts ∧ s ≠ t := by
  rw [rmv, List.mem_filter, decide_eq_true_eq]
theorem rmv_sum {f : Int32 → Nat} {t : Int32} : ∀ {ts : List Int32}, ts.Nodup → t ∈ ts → (ts.map f).sum = ((rmv ts t).map f).sum + f t
  | [], _, h => absurd h (by simp)
  | x :: l, nd, h => by
    obtain ⟨n1, n2⟩ := List.nodup_cons.mp nd
    by_cases e : x = t
    · subst e
      have : rmv (x :: l) x = l := by
        rw [rmv, List.filter_cons, if_neg (by simp)]
        refine List.filter_eq_self.mpr (fun y hy => ?_)
        simp only [decide_eq_true_eq]
        exact fun q => n1 (by rw [← q]; exact hy)
      rw [this, List.map_cons, List.sum_cons]
      omega
    · have hm : t ∈ l := (List.mem_cons.mp h).resolve_left (fun q => e q.symm)
      have : rmv (x :: l) t = x :: rmv l t := by
        rw [rmv, List.filter_cons, if_pos (by simp [e])]
        rfl
      rw [this, List.map_cons, List.map_cons, List.sum_cons, List.sum_cons, rmv_sum n2 hm]
      omega
theorem len_sum : ∀ (l : List Int32), (l.map (fun _ => 1)).sum = l.length
  | [] => rfl
  | x :: l => by
    rw [List.map_cons, List.sum_cons, len_sum l, List.length_cons]; omega
theorem rmv_len {t : Int32} {ts : List Int32} (nd : ts.Nodup) (h : t ∈ ts) : ts.length = (rmv ts t).length + 1 := by
  have := rmv_sum (f := fun _ => 1) nd h
  rw [len_sum, len_sum] at this
  exact this
def hD (k : Nat) : Bool := hW k || hU k || k == 209 || k == 210 || k == 211
theorem drop_x {N : Nat} (hN : BIG ≤ N) {σ : mS} {ts ft ff fh : List Int32} {es ps hs : Int32 → List Int32} {t : Int32} (M : MX σ ts es ps hs ff fh) (hd : dst σ) (T : FT σ ts ft) (ht : t ∈ ts) : ∃ τ ps' hs' ff' fh', xx3_drop N σ t = some τ ∧ MX τ (rmv ts t) es ps' hs' ff' fh' ∧ FT τ (rmv ts t) (t :: ft) ∧ m_fr hD σ τ ∧ (∀ s, s ∈ ts → s ≠ t → ∀ x, x ∈ es s → sI τ 217 x = sI σ 217 x) := by
  obtain ⟨F, H, B, E1, E2, E3, E4, E5, E6, E7⟩ := M
  obtain ⟨T1, T2, T3, T4, T5⟩ := T
  obtain ⟨τ, fh', e0, H', fr⟩ := noHoles_x hN ht hd F H
  obtain ⟨t0, t1, _⟩ := H.1 t ht
  have F' : FX τ ts es ps := mf_FX2 fr ⟨rfl, rfl, rfl, rfl, rfl, rfl⟩ ⟨rfl, rfl, rfl, rfl, rfl⟩ F
  obtain ⟨sg, l198, nd, c199, c200⟩ := E2 t ht
  have own : ∀ s, s ∈ ts → s ≠ t → ∀ x, x ∈ es t → x ∉ es s := fun s hs ne x hx q => ne (by
    rw [← (F.1 t ht x hx).2.2.1, (F.1 s hs x q).2.2.1])
  have fUs : fU es t (es t) = es := by
    funext s
    by_cases c : s = t
    · rw [c, fU_s]
    · rw [fU_o c]
  have len220 := rmv_sum (f := fun t => (es t).length) E1 ht
  obtain ⟨υ, ps', ff', h1, h2, h3, h4, h5, h6, h7⟩ := drop_lp (N := N) hN ht t0 t1 (es t) N τ ps ff (sI σ 197 t) (by
    have := nd_20k nd (fun x hx => ⟨(F.1 t ht x hx).1, (F.1 t ht x hx).2.1⟩)
    simp only [BIG] at hN
    omega) (by rw [fUs]; exact F') (fun s hs ne x hx => own s hs ne x hx) (seg_congr sg (fun x _ => mf_I fr rfl)) nd (by rw [mf_F fr (k := 219) rfl]; exact seg_congr E3 (fun x _ => mf_I fr rfl)) (fun x hx => ⟨(E5 x hx).1, (E5 x hx).2.2 t ht⟩) (by
    rw [mf_F fr (k := 220) rfl, E7]
    omega)
  have frW : m_fr (fun k => hW k || hU k) σ υ := mf_tr (mf_mono fr (fun k hk => (Bool.or_eq_false_iff.mp hk).2)) (mf_mono h6 (fun k hk => (Bool.or_eq_false_iff.mp hk).1))
  have frE : m_fr (fun k => [209, 210, 211].contains k) υ (md_pi (md_pi (md_ai υ 209 t.toNatClampNeg (sF υ 210)) 210 t) 211 (sF υ 211 - 1)) := mf_pi (mf_pi (mf_ai mf_rfl rfl) rfl) rfl
  have f210 : sF υ 210 = sF σ 210 := mf_F frW rfl
  have f211 : sF υ 211 = sF σ 211 := mf_F frW rfl
  have g209 : ∀ s, 0 ≤ s → sI (md_pi (md_pi (md_ai υ 209 t.toNatClampNeg (sF υ 210)) 210 t) 211 (sF υ 211 - 1)) 209 s = if s = t then sF σ 210 else sI σ 209 s := fun s s0 => by
    rw [sI_pi, sI_pi, sI_ai t0 s0, f210]
    by_cases c : s = t
    · rw [if_pos ⟨rfl, c⟩, if_pos c]
    · rw [if_neg (fun q => c q.2), if_neg c]
      exact mf_I frW rfl
  have g210 : sF (md_pi (md_pi (md_ai υ 209 t.toNatClampNeg (sF υ 210)) 210 t) 211 (sF υ 211 - 1)) 210 = t := by simp (disch := decide) only [sF_pi, sF_pl, sF_ai, sF_al, sG_pi, sG_pl, sG_ai, sG_al, sI_pi, sI_pl, sI_al, sI_ai1, sI_ai2, sJ_pi, sJ_pl, sJ_ai, sJ_al1, sJ_al2, Nat.reduceEqDiff, if_true, if_false, ne_eq, not_false_eq_true, ite_true, ite_false]
  have g211 : sF (md_pi (md_pi (md_ai υ 209 t.toNatClampNeg (sF υ 210)) 210 t) 211 (sF υ 211 - 1)) 211 = sF σ 211 - 1 := by simp (disch := decide) only [sF_pi, sF_pl, sF_ai, sF_al, sG_pi, sG_pl, sG_ai, sG_al, sI_pi, sI_pl, sI_al, sI_ai1, sI_ai2, sJ_pi, sJ_pl, sJ_ai, sJ_al1, sJ_al2, Nat.reduceEqDiff, if_true, if_false, ne_eq, not_false_eq_true, ite_true, ite_false]; rw [f211]
  have st : xx3_drop N σ t = some (md_pi (md_pi (md_ai υ 209 t.toNatClampNeg (sF υ 210)) 210 t) 211 (sF υ 211 - 1)) := by
    rw [← h1, xx3_drop, e0]
    simp only [bd, lt, sI_fold]
    rw [gd_in (by decide) t0 t1, mf_I fr (k := 197) rfl]
  generalize md_pi (md_pi (md_ai υ 209 t.toNatClampNeg (sF υ 210)) 210 t) 211 (sF υ 211 - 1) = ω at *
  have frA : m_fr hD σ ω := mf_tr (mf_mono frW (fun k hk => by
    simp only [hD, Bool.or_eq_false_iff] at hk
    exact Bool.or_eq_false_iff.mpr ⟨hk.1.1.1.1, hk.1.1.1.2⟩)) (mf_mono frE (fun k hk => by
    simp only [hD, Bool.or_eq_false_iff, beq_eq_false_iff_ne] at hk
    simp only [List.contains_cons, List.contains_nil, Bool.or_eq_false_iff, beq_eq_false_iff_ne]
    exact ⟨hk.1.1.2, hk.1.2, hk.2, trivial⟩))
  have i217 : ∀ x, 0 ≤ x → x ∉ es t → sI ω 217 x = sI σ 217 x := fun x x0 hx => by
    rw [mf_I frE (k := 217) rfl, h7 x x0 hx]
    exact mf_I fr rfl
  have alE : alv ω = alv σ := by
    funext x
    simp only [alv]
    rw [mf_I frA (k := 214) rfl]
  have ndn : (es t ++ ff).Nodup := List.nodup_append.mpr ⟨nd, E4, fun a ha b hb q => (E5 b hb).2.2 t ht (by rw [← q]; exact ha)⟩
  refine ⟨ω, ps', fU hs t [], ff', fh', st, ⟨?_, ?_, fun s hs' => ?_, E1.filter _, fun s hs' => ?_, ?_, h4.nodup_iff.mpr ndn, fun x hx => ?_, ?_, ?_⟩, ⟨?_, ?_, fun s hs' => ?_, ?_, ?_⟩, frA, fun s hs' ne x hx => i217 x (F.1 s hs' x hx).1 (fun q => own s hs' ne x q hx)⟩
  · have FF := mf_FX2 (frE) ⟨rfl, rfl, rfl, rfl, rfl, rfl⟩ ⟨rfl, rfl, rfl, rfl, rfl⟩ h2
    refine ⟨fun s hs' x hx => FF.1 s (rmv_m.mp hs').1 x (by rw [fU_o (rmv_m.mp hs').2]; exact hx), fun p p0 p1 => ?_, fun s hs' x y hx hy kq => FF.2.2 s (rmv_m.mp hs').1 x y (by rw [fU_o (rmv_m.mp hs').2]; exact hx) (by rw [fU_o (rmv_m.mp hs').2]; exact hy) kq⟩
    obtain ⟨a1, a2, a3⟩ := FF.2.1 p p0 p1
    refine ⟨a1, a2, fun x => ?_⟩
    rw [a3 x]
    refine ⟨fun ⟨⟨s, q1, q2⟩, q3⟩ => ?_, fun ⟨⟨s, q1, q2⟩, q3⟩ => ⟨⟨s, (rmv_m.mp q1).1, by rw [fU_o (rmv_m.mp q1).2]; exact q2⟩, q3⟩⟩
    by_cases c : s = t
    · rw [c, fU_s] at q2
      exact absurd q2 (by simp)
    · rw [fU_o c] at q2
      exact ⟨⟨s, rmv_m.mpr ⟨q1, c⟩, q2⟩, q3⟩
  · have HH := mf_HS frE ⟨rfl, rfl, rfl, rfl, rfl, rfl, rfl, rfl, rfl⟩ (mf_HS h6 ⟨rfl, rfl, rfl, rfl, rfl, rfl, rfl, rfl, rfl⟩ H')
    obtain ⟨a1, a2, a3, a4, a5, a6⟩ := HH
    exact ⟨fun s hs' => a1 s (rmv_m.mp hs').1, a2, a3, a4, fun s hs' => a5 s (rmv_m.mp hs').1, fun s hs' s' hs2 => a6 s (rmv_m.mp hs').1 s' (rmv_m.mp hs2).1⟩
  · obtain ⟨q1, q2⟩ := rmv_m.mp hs'
    rw [fU_o q2]
    exact mf_HB frA rfl rfl rfl rfl (mf_I frA rfl) (B s q1)
  · obtain ⟨q1, q2⟩ := rmv_m.mp hs'
    obtain ⟨b1, b2, b3, b4, b5⟩ := E2 s q1
    rw [mf_I frA (k := 197) rfl, mf_I frA (k := 198) rfl, mf_I frA (k := 199) rfl, mf_I frA (k := 200) rfl, alE]
    exact ⟨seg_congr b1 (fun x hx => i217 x (F.1 s q1 x hx).1 (fun q => own s q1 q2 x q hx)), b2, b3, b4, b5⟩
  · rw [mf_F frE (k := 219) rfl]
    exact seg_congr h3 (fun x _ => mf_I frE rfl)
  · rcases List.mem_append.mp (h4.mem_iff.mp hx) with w | w
    · obtain ⟨z0, z1, _⟩ := F.1 t ht x w
      exact ⟨z0, z1, fun s hs' => own s (rmv_m.mp hs').1 (rmv_m.mp hs').2 x w⟩
    · obtain ⟨z0, z1, z2⟩ := E5 x w
      exact ⟨z0, z1, fun s hs' => z2 s (rmv_m.mp hs').1⟩
  · rw [mf_F frE (k := 220) rfl, h5, mf_F fr (k := 220) rfl, h4.length_eq, List.length_append]
    push_cast
    omega
  · rw [mf_F frE (k := 220) rfl, h5, mf_F fr (k := 220) rfl, E7, len220]
    push_cast
    omega
  · rw [g210]
    refine ⟨rfl, ?_⟩
    rw [g209 t t0, if_pos rfl]
    exact seg_congr T1 (fun x hx => by rw [g209 x (T3 x hx).1, if_neg (fun q => (T3 x hx).2.2 (by rw [q]; exact ht))])
  · exact List.nodup_cons.mpr ⟨fun q => (T3 t q).2.2 ht, T2⟩
  · rcases List.mem_cons.mp hs' with w | w
    · rw [w]
      exact ⟨t0, t1, fun q => (rmv_m.mp q).2 rfl⟩
    · obtain ⟨z0, z1, z2⟩ := T3 s w
      exact ⟨z0, z1, fun q => z2 (rmv_m.mp q).1⟩
  · have ln := rmv_len E1 ht
    have one : (1 : Int32).toInt = 1 := rfl
    have u := tI_rng (sF σ 211)
    rw [g211, tI_sub (by rw [one]; omega) (by rw [one]; omega), one, T4, ln]
    push_cast
    omega
  · have ln := rmv_len E1 ht
    rw [List.length_cons]
    omega
