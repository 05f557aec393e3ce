/-! LAYER 2: the reference's collector: tables and entries, what is left -/
theorem nd_perm : ∀ {l l' : List Int32}, l.Nodup → l'.Nodup → (∀ x, x ∈ l ↔ x ∈ l') → l.Perm l'
  | [], l', _, _, h => by
    cases l' with
    | nil => exact List.Perm.refl _
    | cons a t => exact absurd ((h a).mpr List.mem_cons_self) (by simp)
  | a :: l, l', n1, n2, h => by
    obtain ⟨s, t, rfl⟩ := List.append_of_mem ((h a).mp List.mem_cons_self)
    obtain ⟨p1, p2⟩ := List.nodup_cons.mp n1
    have m2 : (s ++ t).Nodup ∧ a ∉ s ++ t := by
      have q := (List.perm_middle (a := a) (l₁ := s) (l₂ := t)).nodup_iff.mp n2
      obtain ⟨q1, q2⟩ := List.nodup_cons.mp q
      exact ⟨q2, q1⟩
    refine (List.Perm.cons a (nd_perm p2 m2.1 (fun x => ?_))).trans List.perm_middle.symm
    have := h x
    simp only [List.mem_cons, List.mem_append] at this ⊢
    have m3 := m2.2
    simp only [List.mem_append, not_or] at m3
    refine ⟨fun q => ?_, fun q => ?_⟩
    · have ne : x ≠ a := fun e => p1 (by rw [← e]; exact q)
      rcases this.mp (.inr q) with w | w | w
      · exact .inl w
      · exact absurd w ne
      · exact .inr w
    · have ne : x ≠ a := fun e => by rw [e] at q; exact q.elim m3.1 m3.2
      rcases this.mpr (q.elim .inl (fun w => .inr (.inr w))) with w | w
      · exact absurd w ne
      · exact w
theorem mlv_flt {σ : mS} {l : List Int32} {k : Int32} : mlv σ (l.filter (alm σ)) k ↔ mlv σ l k := by
  refine ⟨fun ⟨e, h1, h2⟩ => ⟨e, (List.mem_filter.mp h1).1, h2⟩, fun ⟨e, h1, h2, h3, h4⟩ => ⟨e, List.mem_filter.mpr ⟨h1, ?_⟩, h2, h3, h4⟩⟩
  simp only [alm, decide_eq_true_eq]
  exact h4
theorem sweepE_m {N : Nat} (hN : BIG ≤ N) {σ : mS} {ts : List Int32} {es ps0 : Int32 → List Int32} (M : MM σ ts es ps0) (ho : ∀ k, 0 ≤ k → k < 3000 → sI σ 233 k = 1 → k ∈ ts) (hm : ∀ k, 0 ≤ k → k < 3000 → sI σ 233 k = 0 ∨ sI σ 233 k = 1) : ∃ υ Mk ps, mm_sweepEntries N σ = some υ ∧ MM υ Mk (fun s => (es s).filter (alm σ)) ps ∧ FTm υ Mk ∧ (∀ t, t ∈ Mk ↔ 0 ≤ t ∧ t < 3000 ∧ sI σ 233 t = 1) ∧ m_fr keF σ υ := by
  obtain ⟨M0, HH, E⟩ := M
  obtain ⟨τ0, e0, fr0, z1, z2⟩ := se2 hN (σ := σ) N 0 σ (by decide) (by decide) (by simp only [BIG] at hN; rw [show (0 : Int32).toInt = 0 from rfl]; omega) mf_rfl (fun k k0 k1 => absurd (Int32.lt_of_le_of_lt k0 k1) Int32.lt_irrefl)
  have fr1 : m_fr keF σ (md_pi (md_pi (md_pi τ0 30 0) 41 0) 29 0) := mf_pi (mf_pi (mf_pi (mf_mono fr0 (fun k hk => by
    simp only [keF, List.contains_cons, List.contains_nil, Bool.or_eq_false_iff, beq_eq_false_iff_ne] at hk
    simp only [List.contains_cons, List.contains_nil, Bool.or_eq_false_iff, beq_eq_false_iff_ne]; (repeat' (first | exact trivial | omega | apply And.intro)))) rfl) rfl) rfl
  have i21 : ∀ k i, k ≠ 38 → k ≠ 239 → sI (md_pi (md_pi (md_pi τ0 30 0) 41 0) 29 0) k i = sI σ k i := fun k i a b => by
    rw [sI_pi, sI_pi, sI_pi]
    exact mf_I fr0 (by simp only [List.contains_cons, List.contains_nil, Bool.or_eq_false_iff, beq_eq_false_iff_ne]; exact ⟨a, b, trivial⟩)
  have S0 : KO σ (md_pi (md_pi (md_pi τ0 30 0) 41 0) 29 0) ts 2999 [] [] es (fun _ => []) [] := by
    refine ⟨DN_0 (M := 3000) (by decide) (by decide), ⟨by simp only [sF_pi, sF_pl, sF_ai, sF_al, sG_pi, sG_pl, sG_ai, sG_al, sI_pi, sI_pl, sI_al, sI_ai1, sI_ai2, sJ_pi, sJ_pl, sJ_ai, sJ_al1, sJ_al2, Nat.reduceEqDiff, if_true, if_false, ne_eq, not_false_eq_true, ite_true, ite_false]; rfl, fun j hj => absurd hj (by simp)⟩, by simp only [sF_pi, sF_pl, sF_ai, sF_al, sG_pi, sG_pl, sG_ai, sG_al, sI_pi, sI_pl, sI_al, sI_ai1, sI_ai2, sJ_pi, sJ_pl, sJ_ai, sJ_al1, sJ_al2, Nat.reduceEqDiff, if_true, if_false, ne_eq, not_false_eq_true, ite_true, ite_false]; rfl, fr1, FM_nil (fun q q0 q1 => by simp only [sF_pi, sF_pl, sF_ai, sF_al, sG_pi, sG_pl, sG_ai, sG_al, sI_pi, sI_pl, sI_al, sI_ai1, sI_ai2, sJ_pi, sJ_pl, sJ_ai, sJ_al1, sJ_al2, Nat.reduceEqDiff, if_true, if_false, ne_eq, not_false_eq_true, ite_true, ite_false]; exact z2 q q0 q1), fun e e0 e1 => ?_, by simp only [sF_pi, sF_pl, sF_ai, sF_al, sG_pi, sG_pl, sG_ai, sG_al, sI_pi, sI_pl, sI_al, sI_ai1, sI_ai2, sJ_pi, sJ_pl, sJ_ai, sJ_al1, sJ_al2, Nat.reduceEqDiff, if_true, if_false, ne_eq, not_false_eq_true, ite_true, ite_false]; rfl, fun s hs => absurd hs (by simp), fun s hs _ => ⟨i21 21 s (by decide) (by decide), fun x _ => i21 36 x (by decide) (by decide)⟩, by simp, fun e => ⟨fun h => absurd h (by simp), fun ⟨s, hs, _⟩ => absurd hs (by simp)⟩, by simp⟩
    rw [sI_pi, sI_pi, sI_pi, z1 e e0 e1]
    exact ⟨⟨fun h => absurd h (by decide), fun h => absurd h (by simp)⟩, .inl rfl⟩
  obtain ⟨τ, Mk, U, ps, Ein, e1, S⟩ := se65 hN M0 E ho hm N 2999 _ [] [] _ [] S0 (by
    have : (2999 : Int32).toInt = 2999 := rfl
    simp only [BIG] at hN
    omega)
  obtain ⟨D, F, k30, fr, FMt, s3, s4, s5, s6, s7, s8, s9⟩ := S
  have ul := DN_len D (by decide)
  have fs := DN_FS D F (by decide) (by decide) (by decide) (by decide)
  have mk := DN_mk D (by decide) (by decide)
  have q239 : ∀ k, sI (md_pi τ 40 0) 239 k = sI τ 239 k := fun k => sI_pi
  obtain ⟨υ, Mk2, U2, e2, D2, F2', fr2⟩ := se131 (N := N) (σ := md_pi τ 40 0) (fun k k0 k1 => by rw [q239]; exact (s3 k k0 k1).2) N 19999 _ [] [] (DN_0 (M := 20000) (by decide) (by decide)) ⟨by simp only [sF_pi, sF_pl, sF_ai, sF_al, sG_pi, sG_pl, sG_ai, sG_al, sI_pi, sI_pl, sI_al, sI_ai1, sI_ai2, sJ_pi, sJ_pl, sJ_ai, sJ_al1, sJ_al2, Nat.reduceEqDiff, if_true, if_false, ne_eq, not_false_eq_true, ite_true, ite_false]; rfl, fun j hj => absurd hj (by simp)⟩ mf_rfl (by
    have : (19999 : Int32).toInt = 19999 := rfl
    simp only [BIG] at hN
    omega)
  have ul2 := DN_len D2 (by decide)
  have fs2 := DN_FS D2 F2' (by decide) (by decide) (by decide) (by decide)
  have mk2 := DN_mk D2 (by decide) (by decide)
  have fr3 : m_fr (fun k => [39, 40].contains k) τ υ := mf_tr (mf_pi mf_rfl rfl) fr2
  have frυ : m_fr keF σ υ := mf_tr fr (mf_mono fr3 (fun k hk => by
    simp only [keF, List.contains_cons, List.contains_nil, Bool.or_eq_false_iff, beq_eq_false_iff_ne] at hk
    simp only [List.contains_cons, List.contains_nil, Bool.or_eq_false_iff, beq_eq_false_iff_ne]; (repeat' (first | exact trivial | omega | apply And.intro))))
  have mem : ∀ t, t ∈ Mk ↔ 0 ≤ t ∧ t < 3000 ∧ sI σ 233 t = 1 := fun t => by
    rw [mk t]
    refine ⟨fun ⟨k, k0, k1, q, hk⟩ => ?_, fun ⟨h0, h1, h2⟩ => ⟨t, h0, h1, (Int32.zero_add t).symm, h2⟩⟩
    rw [Int32.zero_add] at q
    rw [q]
    exact ⟨k0, k1, hk⟩
  have sub : ∀ t, t ∈ Mk → t ∈ ts := fun t ht => by
    obtain ⟨a, b, c⟩ := (mem t).mp ht
    exact ho t a b c
  have m2 : ∀ e, e ∈ Mk2 ↔ e ∈ Ein := fun e => by
    rw [mk2 e]
    refine ⟨fun ⟨k, k0, k1, q, hk⟩ => ?_, fun h => ?_⟩
    · rw [Int32.zero_add] at q
      rw [q]
      rw [q239] at hk
      exact ((s3 k k0 k1).1).mp hk
    · obtain ⟨s, hs, hx⟩ := (s8 e).mp h
      obtain ⟨r0, r1, _⟩ := M0.1 s (sub s hs) e (List.mem_filter.mp hx).1
      exact ⟨e, r0, r1, (Int32.zero_add e).symm, by rw [q239]; exact ((s3 e r0 r1).1).mpr h⟩
  have len2 : Mk2.length = Ein.length := (nd_perm D2.2.2.2.2.2.1 s7 m2).length_eq
  have d9 := D2.2.2.2.2.2.2.2
  rw [show (20000 : Int32).toInt = 20000 from rfl, show (-1 : Int32).toInt = -1 from rfl] at d9
  have d3 := D.2.2.2.2.2.2.2
  rw [show (3000 : Int32).toInt = 3000 from rfl, show (-1 : Int32).toInt = -1 from rfl] at d3
  have alE : alm υ = alm σ := by
    funext e
    simp only [alm, mf_I frυ (k := 34) rfl]
  have i34 : ∀ e, sI υ 34 e = sI σ 34 e := fun e => mf_I frυ rfl
  have i32 : ∀ e, sI υ 32 e = sI σ 32 e := fun e => mf_I frυ rfl
  have i33 : ∀ e, sJ υ 33 e = sJ σ 33 e := fun e => mf_J frυ rfl
  have lv : ∀ l k, mlv υ l k ↔ mlv σ l k := fun l k => by simp only [mlv, i34, i32, i33]
  refine ⟨υ, Mk, ps, ?_, ⟨mf_FM fr3 ⟨rfl, rfl, rfl, rfl, rfl⟩ ⟨rfl, rfl, rfl, rfl, rfl⟩ FMt, fun t ht => ?_, D.2.2.2.2.2.1, fun t ht => ?_, fs2.1, fs2.2.1, fun i i0 i1 => ?_, fs2.2.2.2.1, ?_, ?_⟩, ⟨?_, ?_, fun i i0 i1 => ?_, fun i j i0 ij j1 => ?_, ?_, ?_⟩, mem, frυ⟩
  · rw [← e2]
    show mm_sweepEntries_2 N N 0 σ = _
    rw [e0, seA, e1, seB]
  · have H := HH t (sub t ht)
    have mhE : mh υ t = mh σ t := funext (fun i => mf_I frυ rfl)
    have i27 : sI υ 27 t = sI σ 27 t := mf_I frυ rfl
    have i25 : sI υ 25 t = sI σ 25 t := mf_I frυ rfl
    simp only [HM, HMe, lv, mlv_flt, mhE, i27, i25] at H ⊢
    exact H
  · obtain ⟨t0, t1, sg0, l22, nd, l23, l24⟩ := E.2.1 t (sub t ht)
    obtain ⟨g1, g2, g3⟩ := s5 t ht
    rw [mf_I fr3 (k := 21) rfl, mf_I fr3 (k := 22) rfl, mf_I fr3 (k := 24) rfl, g3, alE, filt_filt, mf_I frυ (k := 23) rfl]
    refine ⟨t0, t1, seg_congr g1 (fun x _ => mf_I fr3 rfl), g2, nd.filter _, l23, ?_⟩
    have : ((es t).filter (alm σ)).filter (fun e => !alm σ e) = [] := by
      rw [List.filter_eq_nil_iff]
      intro x hx
      have := (List.mem_filter.mp hx).2
      simp [this]
    rw [this]
    rfl
  · obtain ⟨q1, q2, q3⟩ := fs2.2.2.1 i i0 i1
    refine ⟨q1, q2, fun t ht q => q3 ?_⟩
    rw [Int32.zero_add, m2, s8]
    exact ⟨t, ht, q⟩
  · have := fs2.2.2.2.2.2.2
    rw [show (20000 : Int32).toInt = 20000 from rfl, len2, s9] at this
    exact this
  · rw [mf_F fr3 (k := 41) rfl, s4, tI_lit (by omega), s9]
  · rw [mf_F fr3 (k := 29) rfl]; exact fs.1
  · rw [mf_F fr3 (k := 29) rfl]; exact fs.2.1
  · rw [mf_F fr3 (k := 29) rfl] at i1
    rw [mf_I fr3 (k := 28) rfl]
    have := fs.2.2.1 i i0 i1
    rw [Int32.zero_add] at this
    exact this
  · rw [mf_F fr3 (k := 29) rfl] at j1
    rw [mf_I fr3 (k := 28) rfl, mf_I fr3 (k := 28) rfl]
    exact fs.2.2.2.1 i j i0 ij j1
  · rw [mf_F fr3 (k := 29) rfl]
    exact fs.2.2.2.2.2.2
  · rw [mf_F fr3 (k := 30) rfl, k30, tI_lit (by omega)]
