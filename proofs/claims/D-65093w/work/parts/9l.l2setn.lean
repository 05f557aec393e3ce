/-! LAYER 2: the reference's tables: bury whole, a new entry -/
theorem flt_len {p : Int32 → Bool} : ∀ (l : List Int32), (l.filter p).length + (l.filter (fun e => !p e)).length = l.length := by
  intro l
  induction l with
  | nil => rfl
  | cons x l ih =>
    simp only [List.filter_cons, List.length_cons]
    cases p x <;> simp <;> omega
theorem bury_m {N : Nat} (hN : BIG ≤ N) {σ : mS} {ts : List Int32} {es ps : Int32 → List Int32} {t : Int32} (M : MM σ ts es ps) (ht : t ∈ ts) : ∃ τ ps', mm_bury N σ t = some τ ∧ MM τ ts (fU es t ((es t).filter (alm σ))) ps' ∧ (sF τ 41).toInt = (sF σ 41).toInt - ((es t).filter (fun e => !alm σ e)).length ∧ m_fr mY σ τ := by
  obtain ⟨F, B, E1, E2, E3, E4, E5, E6, E7, E8⟩ := M
  obtain ⟨t0, t1, z1, z2, z3, z4, z5⟩ := E2 t ht
  have fr0 : m_fr (fun k => [21].contains k) σ (md_ai σ 21 t.toNatClampNeg (-1)) := mf_ai mf_rfl rfl
  have i36 : sI (md_ai σ 21 t.toNatClampNeg (-1)) 36 = sI σ 36 := by funext m; exact mf_I fr0 rfl
  have i39 : sI (md_ai σ 21 t.toNatClampNeg (-1)) 39 = sI σ 39 := by funext m; exact mf_I fr0 rfl
  have al0 : alm (md_ai σ 21 t.toNatClampNeg (-1)) = alm σ := by funext x; simp only [alm]; rw [mf_I fr0 rfl]
  have len := nd_len (M := 20000) _ z3 (fun x hx => ⟨(F.1 t ht x hx).1, by have := (F.1 t ht x hx).2.1; rw [tI_lt] at this; exact this⟩)
  have dlen : ((es t).filter (fun e => !alm σ e)).length ≤ (es t).length := List.length_filter_le _ _
  have slen : (es t).length ≤ (ts.map (fun s => (es s).length)).sum := by
    have := sum_upd (f := fun s => (es s).length) (t := t) (v := 0) E1 ht
    omega
  have dj : ∀ s, s ∈ ts → s ≠ t → ∀ x, x ∈ es t → x ∉ es s := fun s hs' c x hx q => c (by rw [← (F.1 s hs' x q).2.2.1]; exact (F.1 t ht x hx).2.2.1)
  obtain ⟨τ, r1, ⟨ps', y1, y2, y3, y4, y5, y6, y7, y8, y9⟩, r3, r4⟩ := mbury_lp hN (es := es) ht t0 t1 (es t) N (md_ai σ 21 t.toNatClampNeg (-1)) ps [] (sI σ 21 t) (by simp only [BIG] at hN; omega) (by
    rw [List.nil_append, fU_id]
    exact mf_FM fr0 ⟨rfl, rfl, rfl, rfl, rfl⟩ ⟨rfl, rfl, rfl, rfl, rfl⟩ F) (fun s hs' c x hx => dj s hs' c x (by simpa using hx)) (by rw [sI_ai2]; rfl) (by rw [i36]; exact z1) (by simpa using z3) (by
    rw [i39, mf_F fr0 rfl, List.nil_append]
    exact ⟨E3, E4, fun i i0 i1 => ⟨(E5 i i0 i1).1, (E5 i i0 i1).2.1, (E5 i i0 i1).2.2 t ht⟩, E6⟩) (by rw [al0, mf_F fr0 rfl]; omega) (by rw [al0, mf_F fr0 rfl, E8]; omega)
  rw [al0, List.nil_append] at y1 y2 y3 y5
  rw [al0] at y6 y7 y8
  rw [mf_F fr0 rfl] at y6 y7 y8
  rw [i39] at y6
  have fr : m_fr mY σ τ := mf_tr (mf_mono fr0 (fun k hk => by
    simp only [mY, List.contains_cons, List.contains_nil, Bool.or_eq_false_iff] at hk ⊢
    exact ⟨hk.1, trivial⟩)) y9
  have al : alm τ = alm σ := by funext x; simp only [alm]; rw [mf_I fr rfl]
  have nn : ∀ (l : List Int32), (l.filter (alm σ)).filter (fun x => !alm σ x) = [] := fun l => by
    rw [List.filter_filter, List.filter_eq_nil_iff]
    intro x _
    cases alm σ x <;> simp
  have sub : ∀ s, s ∈ ts → ∀ x, x ∈ fU es t ((es t).filter (alm σ)) s → x ∈ es s := fun s _ x hx => by
    by_cases c : s = t
    · subst c; rw [fU_s] at hx; exact (List.mem_filter.mp hx).1
    · rw [fU_o c] at hx; exact hx
  have lv : ∀ s, s ∈ ts → ∀ j, mlv τ (fU es t ((es t).filter (alm σ)) s) j ↔ mlv σ (es s) j := fun s hs' j => by
    have g : ∀ x, sI τ 32 x = sI σ 32 x ∧ sJ τ 33 x = sJ σ 33 x ∧ sI τ 34 x = sI σ 34 x := fun x => ⟨mf_I fr rfl, mf_J fr rfl, mf_I fr rfl⟩
    simp only [mlv, (g _).1, (g _).2.1, (g _).2.2]
    constructor
    · rintro ⟨x, x1, x2⟩
      exact ⟨x, sub s hs' x x1, x2⟩
    · rintro ⟨x, x1, x2, x3, x4⟩
      refine ⟨x, ?_, x2, x3, x4⟩
      by_cases c : s = t
      · subst c; rw [fU_s, List.mem_filter]; exact ⟨x1, by simp [alm, x4]⟩
      · rw [fU_o c]; exact x1
  have sm := sum_upd (f := fun s => (es s).length) (t := t) (v := ((es t).filter (alm σ)).length) E1 ht
  have ef : (fun s => (fU es t ((es t).filter (alm σ)) s).length) = fU (fun s => (es s).length) t ((es t).filter (alm σ)).length := by
    funext s
    simp only [fU]
    split <;> rfl
  have tot := flt_len (p := alm σ) (es t)
  refine ⟨τ, ps', ?_, ⟨y1, fun s hs' => ?_, E1, fun s hs' => ?_, y5.1, y5.2.1, fun i i0 i1 => ?_, y5.2.2.2, ?_, ?_⟩, y8, fr⟩
  · clear F B E2 E5 dj y1 y2 y5 r3 r4 lv sub
    simp (disch := lia) only [mm_bury, lt, gd_in, if_pos, if_neg, ↓reduceIte, gd_z0, gd_z1, gd_tt, sF_fold, sG_fold, sI_fold, sJ_fold]
    exact r1
  · have h := B s hs'
    simp only [HM] at h ⊢
    have imh : mh τ s = mh σ s := by funext i; exact mf_I fr rfl
    rw [mf_I fr rfl, mf_I fr rfl, imh]
    simp only [HMe] at h ⊢
    simp only [lv s hs']
    exact h
  · by_cases c : s = t
    · subst c
      rw [fU_s]
      refine ⟨t0, t1, y2, y3, List.Nodup.sublist List.filter_sublist z3, ?_, ?_⟩
      · rw [mf_I fr rfl, al, filt_filt]; exact z4
      · rw [y4, al, nn]; rfl
    · rw [fU_o c]
      obtain ⟨s0, s1, v1, v2, v3, v4, v5⟩ := E2 s hs'
      obtain ⟨w1, w2, w3⟩ := r4 s s0 c
      have u1 : sI τ 21 s = sI σ 21 s := by rw [w1, sI_ai t0 s0, if_neg (fun q => c q.2)]
      have u2 : sI τ 22 s = sI σ 22 s := by rw [w2, sI_ai1 (by decide)]
      have u3 : sI τ 24 s = sI σ 24 s := by rw [w3]; exact mf_I fr0 rfl
      refine ⟨s0, s1, ?_, by rw [u2]; exact v2, v3, by rw [mf_I fr rfl, al]; exact v4, by rw [u3, al]; exact v5⟩
      rw [u1]
      refine seg_congr v1 (fun x hx => ?_)
      rw [r3 x (F.1 s hs' x hx).1 (by rw [List.nil_append]; exact fun q => dj s hs' c x q hx), i36]
  · obtain ⟨q1, q2, q3⟩ := y5.2.2.1 i i0 i1
    refine ⟨q1, q2, fun s hs' w => ?_⟩
    by_cases c : s = t
    · subst c; rw [fU_s] at w; exact q3 w
    · rw [fU_o c] at w
      rcases y6 i i0 i1 with ⟨a, b⟩ | a
      · rw [b] at w; exact (E5 i i0 a).2.2 s hs' w
      · exact dj s hs' c _ (List.mem_filter.mp a).1 w
  · rw [ef, y7]; omega
  · rw [ef, y8, E8]; omega
def mE (k : Nat) : Bool := [21, 22, 23, 31, 32, 33, 34, 35, 36, 37, 38, 40, 41].contains k
theorem ment_pst {σ τ : mS} {ts : List Int32} {es ps : Int32 → List Int32} {t e kt ty p : Int32} {k : Int64} (M : MM σ ts es ps) (ht : t ∈ ts) (hk : mk_ok σ kt k) (no : ∀ x, x ∈ es t → ¬ mk_eq σ (sI σ 32 x) (sJ σ 33 x) kt k) (hp : chf σ t kt k = p) (hty : ty ≠ 0) (hc : sF σ 40 ≠ 0) (he : sI σ 39 (sF σ 40 - 1) = e) (fr : m_fr mE σ τ) (a32 : ∀ x, 0 ≤ x → sI τ 32 x = if x = e then kt else sI σ 32 x) (a33 : ∀ x, 0 ≤ x → sJ τ 33 x = if x = e then k else sJ σ 33 x) (a34 : ∀ x, 0 ≤ x → sI τ 34 x = if x = e then ty else sI σ 34 x) (a31 : ∀ x, 0 ≤ x → sI τ 31 x = if x = e then t else sI σ 31 x) (a36 : sI τ 36 e = -1) (b36 : ∀ x, 0 ≤ x → x ≠ e → x ≠ sI σ 22 t → sI τ 36 x = sI σ 36 x) (c36 : sI σ 22 t ≠ -1 → sI τ 36 (sI σ 22 t) = e) (a37 : ∀ x, 0 ≤ x → sI τ 37 x = if x = e then sI σ 38 p else sI σ 37 x) (a38 : ∀ q, 0 ≤ q → sI τ 38 q = if q = p then e + 1 else sI σ 38 q) (a21 : ∀ s, 0 ≤ s → sI τ 21 s = if s = t ∧ sI σ 22 t = -1 then e else sI σ 21 s) (a22 : ∀ s, 0 ≤ s → sI τ 22 s = if s = t then e else sI σ 22 s) (a23 : ∀ s, 0 ≤ s → sI τ 23 s = if s = t then sI σ 23 t + 1 else sI σ 23 s) (f40 : sF τ 40 = sF σ 40 - 1) (f41 : sF τ 41 = sF σ 41 + 1) : 0 ≤ e ∧ e < 20000 ∧ (∀ s, s ∈ ts → e ∉ es s) ∧ FM τ ts (fU es t (es t ++ [e])) (fU ps p (e :: ps p)) ∧ EM τ ts (fU es t (es t ++ [e])) ∧ (∀ s, s ∈ ts → ∀ j, mlv τ (es s) j ↔ mlv σ (es s) j) ∧ sI τ 32 e = kt ∧ sJ τ 33 e = k ∧ sI τ 34 e = ty := by
  obtain ⟨F, B, E1, E2, E3, E4, E5, E6, E7, E8⟩ := M
  obtain ⟨t0, t1, _⟩ := E2 t ht
  have ee := E5 (sF σ 40 - 1) (by lia) (by lia)
  rw [he] at ee
  obtain ⟨e0, e1, e2⟩ := ee
  obtain ⟨A1, A2⟩ := mf_M fr ⟨rfl, rfl, rfl, rfl, rfl⟩
  have i4 : ∀ m, sI τ 4 m = sI σ 4 m := fun m => mf_I fr rfl
  have i39 : ∀ m, sI τ 39 m = sI σ 39 m := fun m => mf_I fr rfl
  have b32 : ∀ x, 0 ≤ x → x ≠ e → sI τ 32 x = sI σ 32 x := fun x x0 c => by rw [a32 x x0, if_neg c]
  have b33 : ∀ x, 0 ≤ x → x ≠ e → sJ τ 33 x = sJ σ 33 x := fun x x0 c => by rw [a33 x x0, if_neg c]
  have b34 : ∀ x, 0 ≤ x → x ≠ e → sI τ 34 x = sI σ 34 x := fun x x0 c => by rw [a34 x x0, if_neg c]
  have b31 : ∀ x, 0 ≤ x → x ≠ e → sI τ 31 x = sI σ 31 x := fun x x0 c => by rw [a31 x x0, if_neg c]
  have b37 : ∀ x, 0 ≤ x → x ≠ e → sI τ 37 x = sI σ 37 x := fun x x0 c => by rw [a37 x x0, if_neg c]
  have d32 : sI τ 32 e = kt := by rw [a32 e e0, if_pos rfl]
  have d33 : sJ τ 33 e = k := by rw [a33 e e0, if_pos rfl]
  have d34 : sI τ 34 e = ty := by rw [a34 e e0, if_pos rfl]
  have d31 : sI τ 31 e = t := by rw [a31 e e0, if_pos rfl]
  have d37 : sI τ 37 e = sI σ 38 p := by rw [a37 e e0, if_pos rfl]
  have kok : ∀ a b, mk_ok τ a b ↔ mk_ok σ a b := fun a b => by simp only [mk_ok, A1]
  have keq : ∀ a b c d, mk_eq τ a b c d ↔ mk_eq σ a b c d := fun a b c d => by simp only [mk_eq, A2]
  have pf : ∀ a b c, chf τ a b c = chf σ a b c := fun a b c => by simp only [chf, i4]
  have pr := @chf_rng σ t kt k
  rw [hp] at pr
  obtain ⟨p0, p1⟩ := pr
  have old : ∀ s, s ∈ ts → ∀ x, x ∈ es s → 0 ≤ x ∧ x ≠ e := fun s hs' x hx => ⟨(F.1 s hs' x hx).1, fun q => e2 s hs' (by rw [← q]; exact hx)⟩
  have mem : ∀ s, s ∈ ts → ∀ x, x ∈ fU es t (es t ++ [e]) s → x ∈ es s ∨ (s = t ∧ x = e) := fun s hs' x hx => by
    by_cases c : s = t
    · subst c
      rw [fU_s] at hx
      rcases List.mem_append.mp hx with q | q
      · exact .inl q
      · exact .inr ⟨rfl, by simpa using q⟩
    · rw [fU_o c] at hx; exact .inl hx
  have sup : ∀ s x, x ∈ es s → x ∈ fU es t (es t ++ [e]) s := fun s x hx => by
    by_cases c : s = t
    · subst c; rw [fU_s]; simp [hx]
    · rw [fU_o c]; exact hx
  have eme : e ∈ fU es t (es t ++ [e]) t := by rw [fU_s]; simp
  have alo : ∀ s, s ∈ ts → ∀ x, x ∈ es s → alm τ x = alm σ x := fun s hs' x hx => by
    simp only [alm]; rw [b34 x (old s hs' x hx).1 (old s hs' x hx).2]
  have ale : alm τ e = true := by simp only [alm]; rw [d34]; simp [hty]
  have lvo : ∀ s, s ∈ ts → ∀ j, mlv τ (es s) j ↔ mlv σ (es s) j := fun s hs' j => by
    constructor
    · rintro ⟨x, x1, x2, x3, x4⟩
      obtain ⟨o1, o2⟩ := old s hs' x x1
      rw [b32 x o1 o2] at x2; rw [b33 x o1 o2] at x3; rw [b34 x o1 o2] at x4
      exact ⟨x, x1, x2, x3, x4⟩
    · rintro ⟨x, x1, x2, x3, x4⟩
      obtain ⟨o1, o2⟩ := old s hs' x x1
      exact ⟨x, x1, by rw [b32 x o1 o2]; exact x2, by rw [b33 x o1 o2]; exact x3, by rw [b34 x o1 o2]; exact x4⟩
  refine ⟨e0, e1, e2, ⟨fun s hs' x hx => ?_, fun q q0 q1 => ?_, fun s hs' x y hx hy kq => ?_⟩, ⟨E1, fun s hs' => ?_, by rw [f40]; lia, by rw [f40]; lia, fun i i0 i1 => ?_, fun i j i0 ij j1 => ?_, ?_, ?_⟩, lvo, d32, d33, d34⟩
  · rcases mem s hs' x hx with q | ⟨q1, q2⟩
    · obtain ⟨o1, o2⟩ := old s hs' x q
      obtain ⟨w1, w2, w3, w4⟩ := F.1 s hs' x q
      rw [b32 x o1 o2, b33 x o1 o2, b31 x o1 o2, kok]
      exact ⟨w1, w2, w3, w4⟩
    · subst q2
      rw [d32, d33, d31, kok]
      exact ⟨e0, e1, q1.symm, hk⟩
  · obtain ⟨u1, u2, u3⟩ := F.2.1 q q0 q1
    have om : ∀ x, x ∈ ps q → 0 ≤ x ∧ x ≠ e := fun x hx => by
      obtain ⟨⟨s, s1, s2⟩, _⟩ := (u3 x).mp hx
      exact old s s1 x s2
    have sg : seg (fun x => sI τ 37 x - 1) (sI σ 38 q - 1) (ps q) (-1) := seg_congr u1 (fun x hx => by rw [b37 x (om x hx).1 (om x hx).2])
    have pe : ∀ x, 0 ≤ x → x ≠ e → chf τ (sI τ 31 x) (sI τ 32 x) (sJ τ 33 x) = chf σ (sI σ 31 x) (sI σ 32 x) (sJ σ 33 x) := fun x o1 o2 => by rw [pf, b31 x o1 o2, b32 x o1 o2, b33 x o1 o2]
    by_cases c : q = p
    · subst c
      rw [fU_s, a38 q q0, if_pos rfl, show e + 1 - 1 = e by lia]
      refine ⟨⟨rfl, by dsimp only; rw [d37]; exact sg⟩, List.nodup_cons.mpr ⟨fun w => (om e w).2 rfl, u2⟩, fun x => ?_⟩
      rw [List.mem_cons]
      constructor
      · rintro (w | w)
        · subst w
          exact ⟨⟨t, ht, eme⟩, by rw [pf, d32, d33, d31]; exact hp⟩
        · obtain ⟨⟨s, s1, s2⟩, s3⟩ := (u3 x).mp w
          exact ⟨⟨s, s1, sup s x s2⟩, by rw [pe x (om x w).1 (om x w).2]; exact s3⟩
      · rintro ⟨⟨s, s1, s2⟩, s3⟩
        rcases mem s s1 x s2 with w | ⟨_, w⟩
        · obtain ⟨o1, o2⟩ := old s s1 x w
          rw [pe x o1 o2] at s3
          exact .inr ((u3 x).mpr ⟨⟨s, s1, w⟩, s3⟩)
        · exact .inl w
    · rw [fU_o c, a38 q q0, if_neg c]
      refine ⟨sg, u2, fun x => ?_⟩
      constructor
      · intro w
        obtain ⟨⟨s, s1, s2⟩, s3⟩ := (u3 x).mp w
        exact ⟨⟨s, s1, sup s x s2⟩, by rw [pe x (om x w).1 (om x w).2]; exact s3⟩
      · rintro ⟨⟨s, s1, s2⟩, s3⟩
        rcases mem s s1 x s2 with w | ⟨_, w⟩
        · obtain ⟨o1, o2⟩ := old s s1 x w
          rw [pe x o1 o2] at s3
          exact (u3 x).mpr ⟨⟨s, s1, w⟩, s3⟩
        · subst w
          rw [pf, d32, d33, d31, hp] at s3
          exact absurd s3.symm c
  · rw [keq] at kq
    rcases mem s hs' x hx with q | ⟨q1, q2⟩
    · obtain ⟨o1, o2⟩ := old s hs' x q
      rw [b32 x o1 o2, b33 x o1 o2] at kq
      rcases mem s hs' y hy with w | ⟨w1, w2⟩
      · obtain ⟨v1, v2⟩ := old s hs' y w
        rw [b32 y v1 v2, b33 y v1 v2] at kq
        exact F.2.2 s hs' x y q w kq
      · subst w2; subst w1
        rw [d32, d33] at kq
        exact absurd kq (no x q)
    · subst q2; subst q1
      rw [d32, d33] at kq
      rcases mem s hs' y hy with w | ⟨_, w2⟩
      · obtain ⟨v1, v2⟩ := old s hs' y w
        rw [b32 y v1 v2, b33 y v1 v2] at kq
        exact absurd (mkeq_sym kq) (no y w)
      · exact w2.symm
  · obtain ⟨s0, s1, z1, z2, z3, z4, z5⟩ := E2 s hs'
    by_cases c : s = t
    · subst c
      rw [fU_s]
      have ndn : (es s ++ [e]).Nodup := by
        rw [List.nodup_append]
        exact ⟨z3, by simp, fun a ha b hb q => e2 s hs' (by simp at hb; rw [← hb, ← q]; exact ha)⟩
      have len := nd_len (M := 20000) _ z3 (fun x hx => ⟨(F.1 s hs' x hx).1, by have := (F.1 s hs' x hx).2.1; rw [tI_lt] at this; exact this⟩)
      have lf := List.length_filter_le (alm σ) (es s)
      have fc : (es s).filter (alm τ) = (es s).filter (alm σ) := List.filter_congr (fun x hx => alo s hs' x hx)
      have fd' : (es s).filter (fun x => !alm τ x) = (es s).filter (fun x => !alm σ x) := List.filter_congr (fun x hx => by rw [alo s hs' x hx])
      refine ⟨s0, s1, ?_, by rw [a22 s s0, if_pos rfl]; simp, ndn, ?_, ?_⟩
      · by_cases l : sI σ 22 s = -1
        · have en : es s = [] := by
            rcases List.eq_nil_or_concat (es s) with q | ⟨l', w, q⟩
            · exact q
            · have wm : w ∈ es s := by rw [q]; simp
              rw [z2, q] at l
              simp at l
              have := (F.1 s hs' w wm).1
              rw [l] at this
              exact absurd this (by decide)
          rw [en, a21 s s0, if_pos ⟨rfl, l⟩]
          exact ⟨rfl, a36⟩
        · have nk : es s ≠ [] := fun q => l (by rw [z2, q]; rfl)
          rw [a21 s s0, if_neg (fun q => l q.2)]
          exact seg_end z1 z2 nk ndn (c36 l) a36 (fun x hx xl => b36 x (old s hs' x hx).1 (old s hs' x hx).2 xl)
      · rw [a23 s s0, if_pos rfl, List.filter_append, fc, List.length_append]
        simp only [List.filter_cons, ale, if_true, List.filter_nil, List.length_cons, List.length_nil]
        rw [tI_add] <;> simp only [show (1 : Int32).toInt = 1 from rfl] <;> omega
      · rw [mf_I fr rfl, List.filter_append, fd', List.length_append]
        simp only [List.filter_cons, ale, Bool.not_true, if_false, List.filter_nil, List.length_nil]
        rw [z5]; simp
    · rw [fU_o c]
      have lt : sI σ 22 t ∈ es t ∨ sI σ 22 t = -1 := by
        obtain ⟨_, _, _, y2, _⟩ := E2 t ht
        rcases List.eq_nil_or_concat (es t) with q | ⟨l', w, q⟩
        · right; rw [y2, q]; rfl
        · left; rw [y2, q]; simp
      have nl : ∀ x, x ∈ es s → x ≠ sI σ 22 t := fun x hx q => by
        rcases lt with w | w
        · exact c (by rw [← (F.1 s hs' x hx).2.2.1, q]; exact (F.1 t ht _ w).2.2.1)
        · have := (F.1 s hs' x hx).1
          rw [q, w] at this
          exact absurd this (by decide)
      refine ⟨s0, s1, ?_, by rw [a22 s s0, if_neg c]; exact z2, z3, ?_, ?_⟩
      · rw [a21 s s0, if_neg (fun q => c q.1)]
        exact seg_congr z1 (fun x hx => b36 x (old s hs' x hx).1 (old s hs' x hx).2 (nl x hx))
      · rw [a23 s s0, if_neg c, z4, List.filter_congr (fun x hx => alo s hs' x hx)]
      · rw [mf_I fr rfl, z5]
        congr 2
        exact (List.filter_congr (fun x hx => by rw [alo s hs' x hx])).symm
  · rw [f40] at i1
    rw [i39]
    obtain ⟨x0, x1, x2⟩ := E5 i i0 (by lia)
    refine ⟨x0, x1, fun s hs' q => ?_⟩
    rcases mem s hs' _ q with w | ⟨_, w⟩
    · exact x2 s hs' w
    · exact E6 i (sF σ 40 - 1) i0 (by lia) (by lia) (by rw [w, he])
  · rw [f40] at j1
    rw [i39, i39]
    exact E6 i j i0 ij (by lia)
  · rw [f40]
    have r := tI_rng (sF σ 40)
    have sm := sum_upd (f := fun s => (es s).length) (t := t) (v := (es t ++ [e]).length) E1 ht
    have ef : (fun s => (fU es t (es t ++ [e]) s).length) = fU (fun s => (es s).length) t (es t ++ [e]).length := by
      funext s
      simp only [fU]
      split <;> rfl
    rw [ef]
    simp only [List.length_append, List.length_cons, List.length_nil] at sm ⊢
    rw [tI_le] at E3
    have z : (0 : Int32).toInt = 0 := rfl
    rw [tI_sub] <;> simp only [show (1 : Int32).toInt = 1 from rfl] <;> omega
  · rw [f41]
    have r := tI_rng (sF σ 41)
    have sm := sum_upd (f := fun s => (es s).length) (t := t) (v := (es t ++ [e]).length) E1 ht
    have ef : (fun s => (fU es t (es t ++ [e]) s).length) = fU (fun s => (es s).length) t (es t ++ [e]).length := by
      funext s
      simp only [fU]
      split <;> rfl
    rw [ef]
    simp only [List.length_append, List.length_cons, List.length_nil] at sm ⊢
    rw [tI_le] at E3
    have z : (0 : Int32).toInt = 0 := rfl
    rw [tI_add] <;> simp only [show (1 : Int32).toInt = 1 from rfl] <;> omega
