/-! LAYER 2: the system's tables: bury and put whole -/
theorem filt_filt {p : Int32 → Bool} : ∀ {l : List Int32}, (l.filter p).filter p = l.filter p := fun {l} => by
  rw [List.filter_filter]
  congr 1
  funext x
  cases p x <;> rfl
theorem HS_sub {σ : mS} {ts fh : List Int32} {es es' hs : Int32 → List Int32} (h : ∀ s, s ∈ ts → ∀ x, x ∈ es' s → x ∈ es s) (H : HS σ ts es hs fh) : HS σ ts es' hs fh := by
  obtain ⟨H1, H2⟩ := H
  refine ⟨fun s hs' => ?_, H2⟩
  obtain ⟨s0, s1, a, b, c, d, i⟩ := H1 s hs'
  exact ⟨s0, s1, a, b, c, d, fun e he => i e (h s hs' e he)⟩
theorem bury_x {N : Nat} (hN : BIG ≤ N) {σ : mS} {ts ff fh : List Int32} {es ps hs : Int32 → List Int32} {t : Int32} (M : MX σ ts es ps hs ff fh) (ht : t ∈ ts) : ∃ τ ps' ff', xx3_bury N σ t = some τ ∧ MX τ ts (fU es t ((es t).filter (alv σ))) ps' hs ff' fh ∧ (sF τ 220).toInt = (sF σ 220).toInt - ((es t).filter (fun e => !alv σ e)).length ∧ m_fr hY σ τ := by
  obtain ⟨F, H, B, E1, E2, E3, E4, E5, E6, E7⟩ := M
  obtain ⟨t0, t1, _⟩ := H.1 t ht
  obtain ⟨z1, z2, z3, z4, z5⟩ := E2 t ht
  have fr0 : m_fr (fun k => [197, 198].contains k) σ (md_ai (md_ai σ 197 t.toNatClampNeg (-1)) 198 t.toNatClampNeg (-1)) := mf_ai (mf_ai mf_rfl rfl) rfl
  have i217 : sI (md_ai (md_ai σ 197 t.toNatClampNeg (-1)) 198 t.toNatClampNeg (-1)) 217 = sI σ 217 := by funext m; exact mf_I fr0 rfl
  have al0 : alv (md_ai (md_ai σ 197 t.toNatClampNeg (-1)) 198 t.toNatClampNeg (-1)) = alv σ := by funext x; simp only [alv]; rw [mf_I fr0 rfl]
  have len := nd_len (M := 20000) _ z3 (fun x hx => ⟨(F.1 t ht x hx).1, by have := (F.1 t ht x hx).2.1; rw [tI_lt] at this; exact this⟩)
  have dlen : ((es t).filter (fun e => !alv σ e)).length ≤ (es t).length := List.length_filter_le _ _
  have slen : (es t).length ≤ (ts.map (fun s => (es s).length)).sum := by
    have := sum_upd (f := fun s => (es s).length) (t := t) (v := 0) E1 ht
    omega
  have dj : ∀ s, s ∈ ts → s ≠ t → ∀ x, x ∈ es t → x ∉ es s := fun s hs' c x hx q => c (by rw [← (F.1 s hs' x q).2.2.1]; exact (F.1 t ht x hx).2.2.1)
  obtain ⟨τ, r1, ⟨ps', ff', y1, y2, y3, y4, y5, y6, y7, y8⟩, r3, r4⟩ := bury_lp hN (es := es) ht t0 t1 (es t) N (md_ai (md_ai σ 197 t.toNatClampNeg (-1)) 198 t.toNatClampNeg (-1)) ps [] ff (sI σ 197 t) (by simp only [BIG] at hN; omega) (by
    rw [List.nil_append, fU_id]
    exact mf_FX2 fr0 ⟨rfl, rfl, rfl, rfl, rfl, rfl⟩ ⟨rfl, rfl, rfl, rfl, rfl⟩ F) (fun s hs' c x hx => dj s hs' c x (by simpa using hx)) (by rw [sI_ai1 (by decide), sI_ai2]; rfl) (by rw [sI_ai2]; rfl) (by rw [i217]; exact z1) (by simpa using z3) (by rw [i217, mf_F fr0 rfl]; exact E3) (fun x hx => ⟨(E5 x hx).1, by rw [List.nil_append]; exact (E5 x hx).2.2 t ht⟩) (by rw [al0, mf_F fr0 rfl, E7]; omega)
  rw [al0, List.nil_append] at y1 y2 y3
  rw [al0] at y6 y7
  rw [mf_F fr0 rfl] at y7
  have fr : m_fr hY σ τ := mf_tr (mf_mono fr0 (fun k hk => by
    simp only [hY, Bool.or_eq_false_iff] at hk
    simp only [List.contains_cons, List.contains_nil, Bool.or_eq_false_iff]
    exact ⟨hk.1.1.1, hk.1.1.2, trivial⟩)) y8
  have al : alv τ = alv σ := by funext x; simp only [alv]; rw [mf_I fr rfl]
  have nn : ∀ (l : List Int32), (l.filter (alv σ)).filter (fun x => !alv σ x) = [] := fun l => by
    rw [List.filter_filter, List.filter_eq_nil_iff]
    intro x _
    cases alv σ x <;> simp
  have sub : ∀ s, s ∈ ts → ∀ x, x ∈ fU es t ((es t).filter (alv σ)) s → x ∈ es s := fun s _ x hx => by
    by_cases c : s = t
    · subst c; rw [fU_s] at hx; exact (List.mem_filter.mp hx).1
    · rw [fU_o c] at hx; exact hx
  have lv : ∀ s, s ∈ ts → ∀ j, lvn τ (fU es t ((es t).filter (alv σ)) s) j ↔ lvn σ (es s) j := fun s hs' j => by
    have g : ∀ x, sI τ 212 x = sI σ 212 x ∧ sJ τ 213 x = sJ σ 213 x ∧ sI τ 214 x = sI σ 214 x := fun x => ⟨mf_I fr rfl, mf_J fr rfl, mf_I fr rfl⟩
    simp only [lvn, (g _).1, (g _).2.1, (g _).2.2]
    constructor
    · rintro ⟨x, x1, x2⟩
      exact ⟨x, sub s hs' x x1, x2⟩
    · rintro ⟨x, x1, x2, x3, x4⟩
      refine ⟨x, ?_, x2, x3, x4⟩
      by_cases c : s = t
      · subst c; rw [fU_s, List.mem_filter]; exact ⟨x1, by simp [alv, x4]⟩
      · rw [fU_o c]; exact x1
  refine ⟨τ, ps', ff', ?_, ⟨y1, ?_, fun s hs' => ?_, E1, fun s hs' => ?_, y5, ?_, fun x hx => ?_, ?_, ?_⟩, y7, fr⟩
  · clear F H B E2 E3 E5 dj y1 y2 y5 r3 r4 lv sub
    simp (disch := lia) only [xx3_bury, lt, gd_in, if_pos, if_neg, ↓reduceIte, gd_z0, gd_z1, gd_tt, sF_fold, sG_fold, sI_fold, sJ_fold]
    exact r1
  · exact mf_HS fr ⟨rfl, rfl, rfl, rfl, rfl, rfl, rfl, rfl, rfl⟩ (HS_sub sub H)
  · obtain ⟨q1, q2, q3, q4⟩ := B s hs'
    have b201 : sI τ 201 s = sI σ 201 s := mf_I fr rfl
    refine ⟨by rw [b201]; exact q1, by rw [b201]; exact q2, ?_, by rw [b201, lv s hs']; exact q4⟩
    rw [b201]
    intro j j0 j1 j2 q
    rw [lv s hs'] at q
    obtain ⟨x, x1, x2⟩ := q3 j j0 j1 j2 q
    exact ⟨x, x1, by rw [mf_I fr rfl]; exact x2⟩
  · by_cases c : s = t
    · subst c
      rw [fU_s]
      refine ⟨y2, y3, List.Nodup.sublist List.filter_sublist z3, ?_, ?_⟩
      · rw [mf_I fr rfl, al, filt_filt]; exact z4
      · rw [y4, al, nn]; rfl
    · rw [fU_o c]
      obtain ⟨v1, v2, v3, v4, v5⟩ := E2 s hs'
      have s0 := (H.1 s hs').1
      obtain ⟨w1, w2, w3⟩ := r4 s s0 c
      have u1 : sI τ 197 s = sI σ 197 s := by rw [w1, sI_ai1 (by decide), sI_ai t0 s0, if_neg (fun q => c q.2)]
      have u2 : sI τ 198 s = sI σ 198 s := by rw [w2, sI_ai t0 s0, if_neg (fun q => c q.2), sI_ai1 (by decide)]
      have u3 : sI τ 200 s = sI σ 200 s := by rw [w3]; exact mf_I fr0 rfl
      refine ⟨?_, by rw [u2]; exact v2, v3, by rw [mf_I fr rfl, al]; exact v4, by rw [u3, al]; exact v5⟩
      rw [u1]
      refine seg_congr v1 (fun x hx => ?_)
      rw [r3 x (F.1 s hs' x hx).1 (by rw [List.nil_append]; exact fun q => dj s hs' c x q hx), i217]
  · refine y6.nodup_iff.mpr ?_
    rw [List.nodup_append]
    refine ⟨List.Nodup.sublist List.filter_sublist z3, E4, fun a ha b hb q => ?_⟩
    subst q
    exact (E5 a hb).2.2 t ht (List.mem_filter.mp ha).1
  · rcases List.mem_append.mp (y6.mem_iff.mp hx) with w | w
    · obtain ⟨w1, w2⟩ := List.mem_filter.mp w
      have xr := F.1 t ht x w1
      refine ⟨xr.1, xr.2.1, fun s hs' q => ?_⟩
      by_cases c : s = t
      · subst c
        rw [fU_s] at q
        have := (List.mem_filter.mp q).2
        rw [this] at w2
        exact absurd w2 (by decide)
      · rw [fU_o c] at q
        exact dj s hs' c x w1 q
    · obtain ⟨x0, x1, x2⟩ := E5 x w
      exact ⟨x0, x1, fun s hs' q => x2 s hs' (sub s hs' x q)⟩
  · rw [y7]
    have pl := y6.length_eq
    rw [List.length_append] at pl
    omega
  · rw [y7, E7]
    have sm := sum_upd (f := fun s => (es s).length) (t := t) (v := ((es t).filter (alv σ)).length) E1 ht
    have ef : (fun s => (fU es t ((es t).filter (alv σ)) s).length) = fU (fun s => (es s).length) t ((es t).filter (alv σ)).length := by
      funext s
      simp only [fU]
      split <;> rfl
    rw [ef]
    have tot : ((es t).filter (alv σ)).length + ((es t).filter (fun e => !alv σ e)).length = (es t).length := by
      have : ∀ (l : List Int32), (l.filter (alv σ)).length + (l.filter (fun e => !alv σ e)).length = l.length := by
        intro l
        induction l with
        | nil => rfl
        | cons x l ih =>
          simp only [List.filter_cons, List.length_cons]
          cases alv σ x <;> simp <;> omega
      exact this _
    omega
