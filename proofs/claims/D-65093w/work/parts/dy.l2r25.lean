/-! LAYER 2: step rules: one side: MINUS, BITS_NOT -/
theorem cv_neg {w : WD} {vx vm : Int64} (v : VV w 3 vx 2 vm) : VV w 3 (-vx) 2 (-vm) ∧ VV w 3 (vx ^^^ -1) 2 (vm ^^^ -1) := by
  have := VV_3 v
  subst this
  exact ⟨VV_n, VV_n⟩
/-- the number on top is changed in its place -/
theorem num_S {e : EV} {w : WD} {xf : Int32 → List Int32} {c d : Int32} {rest : PL2} {f : Int32} {fl : List Int32} {ρ0 : List Int32} {x : Int32} {g p q F n : Int32} {σ μ : mS} (S : ST e w xf c d rest f fl (ρ0 ++ [x]) (-1) g p q F n σ μ) (z : zk e g (ρ0 ++ [x])) {r : Int32} (ok : okr ρ0 r 1 (sI (eσ e) 261 g)) {v : Int64} (h2 : sI μ 141 (sF μ 143 - 1) = 2) {N : Nat} : xx6_set N σ r 3 v = some (xS σ (sI σ 347 f + r) 3 v) ∧ ST e w xf c d rest f fl (ρ0 ++ [r]) (-1) g p q F n (xS σ (sI σ 347 f + r) 3 v) (md_al μ 142 (sF μ 143 - 1).toNatClampNeg v) := by
  obtain ⟨t1, t2, t3, A⟩ := PT_top S.1 z.1
  have S0 : ST e w xf c d rest f fl ρ0 (-1) g p q F n σ (md_pi μ 143 (sF μ 143 - 1)) := ⟨A, S.2⟩
  obtain ⟨s1, S1, ⟨s2, s3⟩, s4⟩ := set_1 (N := N) (t := 3) (v := v) S0 (zk_l z) ok (by decide) (by decide)
  have fr : m_fr (fun k => [142].contains k) μ (md_al μ 142 (sF μ 143 - 1).toNatClampNeg v) := mf_al mf_rfl rfl
  have N' := (PT_N S.1).2.2.1
  have bl := pl_1 (j := ρ0.length) (k := 0) N'.1 N'.2 (by have := z.1; rw [List.length_append] at this; omega) (by omega)
  have T := S1.1.1.2
  rw [S1.1.2.2.2.2.2] at T
  obtain ⟨T1, T2⟩ := TP_1 T
  have hq := S.1.2.2.2.1
  rw [S.1.2.2.2.2.2] at hq
  have T0 := S.1.1.2
  rw [S.1.2.2.2.2.2] at T0
  have y : mtc (n - 1) (mff (md_pi μ 143 (sF μ 143 - 1)) (n - 1) 3) (md_pi μ 143 (sF μ 143 - 1)) (md_al μ 142 (sF μ 143 - 1).toNatClampNeg v) := by
    refine mtc_tr m143_bk ⟨mf_mono fr (fun k hk => ?_), fun j hj i _ _ => by rcases hj with rfl | rfl | rfl <;> exact mf_I fr rfl, fun i i0 iB => ⟨mf_I fr rfl, ?_⟩⟩
    · simp only [nT, inR, List.contains_cons, List.contains_nil, Bool.or_eq_false_iff, beq_eq_false_iff_ne, Bool.and_eq_false_iff, decide_eq_false_iff_not] at hk ⊢
      (repeat' (first | exact trivial | omega | apply And.intro))
    · rw [sJ_lj t2.1 i0, if_neg (fun h => by
        rw [h, t3] at iB
        exact Int32.lt_irrefl (Int32.lt_of_lt_of_le iB bl.2.2.1))]
  refine ⟨s1, PT_mk S1.1 xtc_rfl y S1.1.2.2.1 hq (.inl ⟨rfl, RG_app.mpr ⟨?_, RG_one.mpr (.inr (.inl ⟨ok.1, ?_⟩))⟩, ?_⟩), S1.2⟩
  · refine RG_cg T1 wle_rfl (fun _ _ _ => ⟨rfl, rfl⟩) (fun j hj => ⟨(mf_I (k := 141) fr rfl : sI (md_al μ 142 (sF μ 143 - 1).toNatClampNeg v) 141 _ = sI μ 141 _), ?_⟩)
    have b := pl_1 (j := j) (k := ρ0.length) N'.1 N'.2 (by have := z.1; rw [List.length_append] at this; omega) (by have := z.1; rw [List.length_append] at this; omega)
    rw [show mff (md_al μ 142 (sF μ 143 - 1).toNatClampNeg v) (n - 1) 3 = mff μ (n - 1) 3 from rfl, sJ_lj t2.1 b.1.1, t3, if_neg (fun h => by have := b.2.1.mp h; omega)]
    rfl
  · rw [show mff (md_al μ 142 (sF μ 143 - 1).toNatClampNeg v) (n - 1) 3 = mff μ (n - 1) 3 from rfl, ← t3, mf_I fr (k := 141) rfl, h2, sJ_lj t2.1 t2.1, if_pos rfl, s2, s3]
    exact VV_n
  · have := (TP_1 T0).2
    rw [List.length_append, List.length_singleton] at this ⊢
    exact this
/-- a call of a handler with one value twice -/
theorem callH_one {N : Nat} {μ : mS} {P nm th : Int32} : mm_callHandler N μ P nm th = mm_callHandler N μ P nm th := rfl
theorem one_x {N : Nat} {σ : mS} {op r a live t : Int32} {v : Int64} (ho : op = 54 ∨ op = 55) (h1 : xx6_tag N σ a = some (t, σ)) (h2 : xx6_value N σ a = some (v, σ)) : xx6_one N σ op r a live = (if t = 3 then (if op = 54 then bd (xx6_set N σ r 3 (-v)) (fun z => some (.ok z)) else bd (xx6_set N σ r 3 (v ^^^ -1)) (fun z => some (.ok z))) else xx6_one_b207 N op r live t v t v (if op = 54 then 8 else 9) σ) := by
  rw [xx6_one, h1, bd_so, h2, bd_so]
  rcases ho with rfl | rfl
  · rw [if_neg (by decide)]; rfl
  · rw [if_neg (by decide)]; rfl
theorem one_m {N : Nat} {μ : mS} {a : Int32} (ha : a = 24 ∨ a = 25) (b0 : 0 ≤ μ.1 143 - 1) (b1 : μ.1 143 - 1 < 500000) : mm_one N μ a = (if μ.2.2.1 141 (μ.1 143 - 1).toNatClampNeg = 2 then some (md_al μ 142 (μ.1 143 - 1).toNatClampNeg (if a = 24 then -(μ.2.2.2 142 (μ.1 143 - 1).toNatClampNeg) else (μ.2.2.2 142 (μ.1 143 - 1).toNatClampNeg) ^^^ -1)) else bd (mm_push N μ (μ.2.2.1 141 (μ.1 143 - 1).toNatClampNeg) (μ.2.2.2 142 (μ.1 143 - 1).toNatClampNeg)) (fun z7 => mm_one_152 N a (μ.2.2.1 141 (μ.1 143 - 1).toNatClampNeg) (μ.1 143 - 1) (if a = 24 then z7.1 206 else z7.1 207) z7)) := by
  rw [mm_one, lt]
  rcases ha with rfl | rfl
  · rw [if_neg (by decide), if_neg (by decide), gd_in (by decide) b0 b1]
    split
    · rw [if_pos rfl, gd_in (by decide) b0 b1, mm_one_106, gd_in (by decide) b0 b1, lt, if_pos rfl]; rfl
    · rw [gd_in (by decide) b0 b1, lt, gd_in (by decide) b0 b1, gd_in (by decide) b0 b1]
      exact bd_cg (fun z => rfl)
  · rw [if_neg (by decide), if_neg (by decide), gd_in (by decide) b0 b1]
    split
    · rw [if_neg (by decide), gd_in (by decide) b0 b1, mm_one_106, gd_in (by decide) b0 b1, lt, if_neg (by decide)]; rfl
    · rw [gd_in (by decide) b0 b1, lt, gd_in (by decide) b0 b1, gd_in (by decide) b0 b1]
      exact bd_cg (fun z => rfl)
