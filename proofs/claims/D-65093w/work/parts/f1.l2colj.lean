/-! LAYER 2: the reference's collector: functions come together -/
theorem so_1 {a n i : Int32} (h0 : 0 ≤ a) (h1 : a ≤ 12000) (n1 : n ≤ 12000) (h2 : a + n ≤ 12000) (i0 : 0 ≤ i) (i1 : i < n) : (0 ≤ a + i ∧ a + i < 12000) ∧ 0 ≤ i + 1 ∧ i + 1 ≤ n ∧ (i + 1).toInt = i.toInt + 1 ∧ (∀ k, k < i + 1 → ¬ k = i → k < i) := by
  have := ss_1 (b := a) h0 (Int32.le_trans h1 (by decide)) (Int32.le_trans n1 (by decide)) (Int32.le_trans h2 (by decide)) i0 i1
  exact ⟨⟨this.1.1, by clear this; lia⟩, this.2⟩
theorem so63 {N : Nat} {σ : mS} {b top v2 n : Int32} (r16 : Int32 → Int32 → mS → Option mS) (b0 : 0 ≤ b) (b1 : b < 4100) (n0 : 0 ≤ n) (n1 : n ≤ 12000) (a0 : 0 ≤ sI σ 46 b) (a1 : sI σ 46 b ≤ 12000) (an : sI σ 46 b + n ≤ 12000) (t0 : 0 ≤ top) (t1 : top ≤ 12000) (tn : top + n ≤ 12000) (j : Nat) : ∀ (i : Int32), 0 ≤ i → i ≤ n → (n.toInt - i.toInt).toNat < j → ∀ τ, m_fr (fun k => k == 51) σ τ → (∀ k, 0 ≤ k → k < i → sI τ 51 (top + k) = sI σ 50 (sI σ 46 b + k)) → (∀ m, 0 ≤ m → m < top → sI τ 51 m = sI σ 51 m) → ∃ υ, mm_sweepOthers_63 N r16 j top v2 b n i τ = r16 (top + n) (v2 + -1) (md_pi (md_ai υ 46 b.toNatClampNeg top) 49 (sF σ 49 + 1)) ∧ m_fr (fun k => k == 51) σ υ ∧ (∀ k, 0 ≤ k → k < n → sI υ 51 (top + k) = sI σ 50 (sI σ 46 b + k)) ∧ (∀ m, 0 ≤ m → m < top → sI υ 51 m = sI σ 51 m) := by
  induction j with
  | zero => intro i _ _ h; omega
  | succ j ih =>
    intro i i0 i1 hj τ fr q1 q2
    have e2 : τ.2.2.1 46 b.toNatClampNeg = sI σ 46 b := mf_I fr (k := 46) rfl
    rw [mm_sweepOthers_63]
    by_cases c : n ≤ i
    · have ei := Int32.le_antisymm i1 c
      subst ei
      have e13' : τ.1 49 = sF σ 49 := mf_F fr (k := 49) rfl
      have e13 : (md_ai τ 46 b.toNatClampNeg top).1 49 = sF σ 49 := e13'
      rw [if_pos c, gd_in (by decide) b0 b1, lt, lt, e13, lt, mm_sweepOthers_144, lt]
      exact ⟨τ, rfl, fr, q1, q2⟩
    · have ilt := Int32.not_le.mp c
      have A := so_1 a0 a1 n1 an i0 ilt
      have T := so_1 t0 t1 n1 tn i0 ilt
      have e10 : τ.2.2.1 50 (sI σ 46 b + i).toNatClampNeg = sI σ 50 (sI σ 46 b + i) := mf_I fr (k := 50) rfl
      have il := tI_lt.mp ilt
      rw [if_neg c, gd_in (by decide) b0 b1, e2, gd_in (by decide) A.1.1 A.1.2, gd_in (by decide) T.1.1 T.1.2, e10, lt, lt]
      refine ih (i + 1) A.2.1 A.2.2.1 (by omega) _ (mf_ai fr rfl) (fun k k0 k1 => ?_) (fun m m0 m1 => ?_)
      · have kn : k ≤ n := by
          by_cases ck : k = i
          · rw [ck]; exact i1
          · exact Int32.le_trans (Int32.le_of_lt (A.2.2.2.2 k k1 ck)) i1
        have D := ss_2 t0 (Int32.le_trans t1 (by decide)) (Int32.le_trans n1 (by decide)) i0 ilt k0 kn
        rw [sI_aj T.1.1 D.2]
        by_cases ck : k = i
        · rw [if_pos (D.1.mpr ck), ck]
        · rw [if_neg (fun h => ck (D.1.mp h))]
          exact q1 k k0 (A.2.2.2.2 k k1 ck)
      · rw [sI_aj T.1.1 m0, if_neg (fun h => by
          rw [h] at m1
          have := T.1.1
          clear q1 q2 A ih
          lia)]
        exact q2 m m0 m1
/-- how many captures -/
def capN (σ : mS) (b : Int32) : Int32 := if 0 ≤ sI σ 45 b then sI σ 81 (sI σ 45 b) else 0
def cps (σ : mS) (l : List Int32) : Int := (l.map (fun b => (capN σ b).toInt)).sum
def soF (k : Nat) : Bool := [46, 47, 48, 49, 51].contains k
def SOI (σ τ : mS) (v T : Int32) (Mk U : List Int32) : Prop := DN σ 234 64 4000 v Mk U ∧ FRw τ 48 47 U ∧ (0 ≤ T ∧ T ≤ 12000 ∧ T.toInt = cps σ Mk) ∧ m_fr soF σ τ ∧ (∀ b, 0 ≤ b → b ∉ Mk → sI τ 46 b = sI σ 46 b) ∧ (∀ b, b ∈ Mk → 0 ≤ sI τ 46 b ∧ sI τ 46 b ≤ 12000 ∧ sI τ 46 b + capN σ b ≤ T ∧ ∀ k, 0 ≤ k → k < capN σ b → sI τ 51 (sI τ 46 b + k) = sI σ 50 (sI σ 46 b + k)) ∧ sF τ 49 = Int32.ofNat Mk.length
theorem SOI_u {σ τ : mS} {v T : Int32} {Mk U : List Int32} (S : SOI σ τ v T Mk U) (h0 : ¬ v < 0) (hv : sI σ 234 v = 0) : SOI σ (md_pi (md_ai τ 47 (sF τ 48).toNatClampNeg v) 48 (sF τ 48 + 1)) (v + -1) T Mk (U ++ [v]) := by
  obtain ⟨D, F, hT, fr, s2, s3, s4⟩ := S
  have ul := DN_len D (by decide)
  have c0 : 0 ≤ sF τ 48 := by rw [F.1]; exact oN_nn (by omega)
  refine ⟨DN_u D h0 hv (by decide) (by decide) (by decide), ?_, hT, mf_pi (mf_ai fr rfl) rfl, fun b b0 hb => ?_, fun b hb => ?_, ?_⟩
  · refine FRw_s F (by omega) (by simp only [sF_pi, sF_pl, sF_ai, sF_al, sG_pi, sG_pl, sG_ai, sG_al, sI_pi, sI_pl, sI_al, sI_ai1, sI_ai2, sJ_pi, sJ_pl, sJ_ai, sJ_al1, sJ_al2, Nat.reduceEqDiff, if_true, if_false, ne_eq, not_false_eq_true, ite_true, ite_false]; rw [F.1]) (fun i i0 => ?_)
    rw [sI_pi, sI_ai c0 i0, F.1]
    by_cases q : i = Int32.ofNat U.length
    · rw [if_pos ⟨rfl, q⟩, if_pos q]
    · rw [if_neg (fun h => q h.2), if_neg q]
  · simp (disch := decide) only [sF_pi, sF_pl, sF_ai, sF_al, sG_pi, sG_pl, sG_ai, sG_al, sI_pi, sI_pl, sI_al, sI_ai1, sI_ai2, sJ_pi, sJ_pl, sJ_ai, sJ_al1, sJ_al2, Nat.reduceEqDiff, if_true, if_false, ne_eq, not_false_eq_true, ite_true, ite_false]
    exact s2 b b0 hb
  · simp (disch := decide) only [sF_pi, sF_pl, sF_ai, sF_al, sG_pi, sG_pl, sG_ai, sG_al, sI_pi, sI_pl, sI_al, sI_ai1, sI_ai2, sJ_pi, sJ_pl, sJ_ai, sJ_al1, sJ_al2, Nat.reduceEqDiff, if_true, if_false, ne_eq, not_false_eq_true, ite_true, ite_false]
    exact s3 b hb
  · simp (disch := decide) only [sF_pi, sF_pl, sF_ai, sF_al, sG_pi, sG_pl, sG_ai, sG_al, sI_pi, sI_pl, sI_al, sI_ai1, sI_ai2, sJ_pi, sJ_pl, sJ_ai, sJ_al1, sJ_al2, Nat.reduceEqDiff, if_true, if_false, ne_eq, not_false_eq_true, ite_true, ite_false]
    exact s4
theorem cps_s {σ : mS} {l : List Int32} {b : Int32} : cps σ (l ++ [b]) = cps σ l + (capN σ b).toInt := by
  simp only [cps, List.map_append, List.map_cons, List.map_nil, List.sum_append, List.sum_cons, List.sum_nil]
  omega
theorem so_3 {T n : Int32} {s : Int} (T0 : 0 ≤ T) (T1 : T ≤ 12000) (hT : T.toInt = s) (n0 : 0 ≤ n) (n1 : n ≤ 12000) (h : s + n.toInt ≤ 12000) : T + n ≤ 12000 ∧ 0 ≤ T + n ∧ (T + n).toInt = s + n.toInt := by
  rw [tI_le] at T0 T1 n0 n1
  have z : (0 : Int32).toInt = 0 := rfl
  have z3 : (12000 : Int32).toInt = 12000 := rfl
  have e : (T + n).toInt = T.toInt + n.toInt := tI_add (by omega) (by omega)
  rw [tI_le, tI_le, e]
  omega
theorem so_4 {a n T m : Int32} (h0 : 0 ≤ a) (h1 : a ≤ 12000) (h2 : a + n ≤ T) (n1 : n ≤ 12000) (T1 : T ≤ 12000) (m0 : 0 ≤ m) (m1 : m < n) : 0 ≤ a + m ∧ a + m < T := ⟨by lia, by lia⟩
theorem so_5 {T n a m : Int32} (T0 : 0 ≤ T) (T1 : T + n ≤ 12000) (n0 : 0 ≤ n) (T2 : T ≤ 12000) (n1 : n ≤ 12000) (m0 : 0 ≤ m) (h : a + m ≤ T) : a + m ≤ T + n := by lia
theorem SOI_m {σ τ υ : mS} {v T b n : Int32} {Mk U : List Int32} (S : SOI σ τ v T Mk U) (h0 : ¬ v < 0) (hv : sI σ 234 v = 1) (hb : b = 64 + v) (hn : capN σ b = n) (n0 : 0 ≤ n) (n1 : n ≤ 12000) (hz : ∀ x, x ∈ Mk → 0 ≤ capN σ x ∧ capN σ x ≤ 12000) (hs : cps σ (Mk ++ [b]) ≤ 12000) (fr' : m_fr (fun k => k == 51) τ υ) (u1 : ∀ k, 0 ≤ k → k < n → sI υ 51 (T + k) = sI τ 50 (sI τ 46 b + k)) (u2 : ∀ m, 0 ≤ m → m < T → sI υ 51 m = sI τ 51 m) : SOI σ (md_pi (md_ai υ 46 b.toNatClampNeg T) 49 (sF τ 49 + 1)) (v + -1) (T + n) (Mk ++ [b]) U := by
  obtain ⟨D, F, ⟨T0, T1, hT⟩, fr, s2, s3, s4⟩ := S
  have ul := DN_len D (by decide)
  obtain ⟨nm, D'⟩ := DN_m D h0 hv (by decide) (by decide) (by decide)
  rw [← hb] at nm D'
  have b0 : 0 ≤ b := by
    rw [hb]
    have a := Int32.not_lt.mp h0
    have c := D.1.2
    clear D D' F fr s2 s3 u1 u2 hz
    lia
  rw [cps_s, hn] at hs
  obtain ⟨t1, t2, t3⟩ := so_3 T0 T1 hT n0 n1 hs
  have e10 : ∀ i, sI τ 50 i = sI σ 50 i := fun i => mf_I fr rfl
  refine ⟨D', FRw_fr (FRw_fr F fr' rfl rfl) (mf_pi (mf_ai (mf_rfl (P := fun k => [46, 49].contains k)) rfl) rfl) rfl rfl, ⟨t2, t1, by rw [cps_s, hn, t3]⟩, mf_pi (mf_ai (mf_tr fr (mf_mono fr' (fun k hk => by
      simp only [soF, List.contains_cons, List.contains_nil, Bool.or_eq_false_iff, beq_eq_false_iff_ne] at hk
      simp only [beq_eq_false_iff_ne]; omega))) rfl) rfl, fun c c0 hc => ?_, fun c hc => ?_, ?_⟩
  · rw [List.mem_append, List.mem_singleton, not_or] at hc
    rw [sI_pi, sI_ai b0 c0, if_neg (fun h => hc.2 h.2), mf_I fr' rfl]
    exact s2 c c0 hc.1
  · have at2 : ∀ c, 0 ≤ c → sI (md_pi (md_ai υ 46 b.toNatClampNeg T) 49 (sF τ 49 + 1)) 46 c = if c = b then T else sI τ 46 c := fun c c0 => by
      rw [sI_pi, sI_ai b0 c0, mf_I fr' rfl]
      by_cases q : c = b
      · rw [if_pos ⟨rfl, q⟩, if_pos q]
      · rw [if_neg (fun h => q h.2), if_neg q]
    have at11 : ∀ i, sI (md_pi (md_ai υ 46 b.toNatClampNeg T) 49 (sF τ 49 + 1)) 51 i = sI υ 51 i := fun i => by rw [sI_pi, sI_ai1 (by decide)]
    rcases List.mem_append.mp hc with h | h
    · have c0 : 0 ≤ c := by
        obtain ⟨k, q1, q2, q3, _⟩ := D.2.2.2.1 c h
        rw [q3]
        clear D D' F fr s2 s3 u1 u2 hz at2 at11
        lia
      have ne : ¬ c = b := fun q => nm (by rw [← q]; exact h)
      obtain ⟨a1, a2, a3, a4⟩ := s3 c h
      obtain ⟨z0, z1⟩ := hz c h
      rw [at2 c c0, if_neg ne]
      refine ⟨a1, a2, so_5 T0 t1 n0 T1 n1 z0 a3, fun k k0 k1 => ?_⟩
      obtain ⟨r0, r1⟩ := so_4 a1 a2 a3 z1 T1 k0 k1
      rw [at11, u2 _ r0 r1]
      exact a4 k k0 k1
    · rw [List.mem_singleton] at h
      subst h
      rw [at2 c b0, if_pos rfl, hn]
      refine ⟨T0, T1, Int32.le_refl _, fun k k0 k1 => ?_⟩
      rw [at11, u1 k k0 k1, e10, s2 c b0 nm]
  · rw [sF_pi, if_pos rfl, s4, List.length_append, List.length_singleton]
    exact oN_s
theorem v_F {v : Int32} (h0 : ¬ v < 0) (h1 : v < 4000) : (0 ≤ v ∧ v < 4000) ∧ (v + -1).toInt = v.toInt - 1 ∧ 0 ≤ v.toInt ∧ (0 ≤ 64 + v ∧ 64 ≤ 64 + v ∧ 64 + v < 4100) := by
  have := v_N h0 (Int32.lt_trans h1 (by decide))
  have h := Int32.not_lt.mp h0
  exact ⟨⟨h, h1⟩, this.2.1, this.2.2.1, by clear this; lia, by clear this; lia, by clear this; lia⟩
/-- what comes behind the functions -/
def soB (N : Nat) (σ : mS) (T : Int32) : Option mS := mm_sweepOthers_187 N N 11999 (md_pi (md_pi (md_pi (md_sw 301 50 51 σ) 52 T) 57 0) 56 0)
theorem so16 {N : Nat} (hN : BIG ≤ N) {σ : mS} {o : List Int32} (hf : ∀ b, b ∈ o → (0 ≤ sI σ 46 b ∧ sI σ 46 b ≤ 12000) ∧ (0 ≤ capN σ b ∧ capN σ b ≤ 12000) ∧ sI σ 46 b + capN σ b ≤ 12000 ∧ sI σ 45 b < 9000) (ho : ∀ k, 0 ≤ k → k < 4000 → sI σ 234 k = 1 → 64 + k ∈ o) (hm : ∀ k, 0 ≤ k → k < 4000 → sI σ 234 k = 0 ∨ sI σ 234 k = 1) (hs : ∀ l : List Int32, l.Nodup → (∀ x, x ∈ l → x ∈ o) → cps σ l ≤ 12000) : ∀ (j : Nat) (v T : Int32) (τ : mS) (Mk U : List Int32), SOI σ τ v T Mk U → (v.toInt + 1).toNat < j → ∃ τ' T' Mk' U', mm_sweepOthers_16 N j T v τ = soB N τ' T' ∧ SOI σ τ' (-1) T' Mk' U' := by
  intro j
  induction j with
  | zero => intro v T τ Mk U _ h; omega
  | succ j ih =>
    intro v T τ Mk U S hj
    by_cases v0 : v < 0
    · have e : v = -1 := by
        have := S.1.1.1
        clear S ih hs hm ho hf
        lia
      subst e
      refine ⟨τ, T, Mk, U, ?_, S⟩
      rw [mm_sweepOthers_16, if_pos (by decide)]
      rfl
    · obtain ⟨vr, v1, v2, b0, b1, b2⟩ := v_F v0 S.1.1.2
      have hj' : ((v + -1).toInt + 1).toNat < j := by clear S ih hs hm ho hf; omega
      have e234 : sI τ 234 v = sI σ 234 v := mf_I S.2.2.2.1 rfl
      have ul := DN_len S.1 (by decide)
      have d9 := S.1.2.2.2.2.2.2.2
      rcases hm v vr.1 vr.2 with h | h
      · have S' := SOI_u S v0 h
        have c15 : 0 ≤ sF τ 48 ∧ sF τ 48 < 4000 := by
          rw [S.2.1.1]
          have z : (4000 : Int32).toInt = 4000 := rfl
          rw [z] at d9
          refine ⟨oN_nn (by omega), ?_⟩
          rw [tI_lt, tI_lit (by omega), z]
          omega
        obtain ⟨τ', T', Mk', U', e, P⟩ := ih (v + -1) T _ Mk _ S' hj'
        refine ⟨τ', T', Mk', U', ?_, P⟩
        rw [← e]
        rw [mm_sweepOthers_16, if_neg v0]
        simp only [lt, sF_fold, sI_fold]
        rw [gd_in (by decide) vr.1 vr.2, e234, if_pos h, gd_in (by decide) c15.1 c15.2]
        rfl
      · generalize hb : (64 : Int32) + v = b at *
        have bo : b ∈ o := by rw [← hb]; exact ho v vr.1 vr.2 h
        obtain ⟨⟨g1, g4⟩, ⟨g2, g3⟩, g5, g6⟩ := hf b bo
        have sub : ∀ x, x ∈ Mk → x ∈ o := fun x hx => by
          obtain ⟨k, q1, q2, q3, q4⟩ := S.1.2.2.2.1 x hx
          rw [q3]
          exact ho k (by clear S ih hs hm ho hf g1 g2 g3 g4 g5 g6; lia) q2 q4
        obtain ⟨nm, D'⟩ := DN_m S.1 v0 h (by decide) (by decide) (by decide)
        rw [hb] at nm D'
        have nd : (Mk ++ [b]).Nodup := D'.2.2.2.2.2.1
        have hs' := hs (Mk ++ [b]) nd (fun x hx => by
          rcases List.mem_append.mp hx with q | q
          · exact sub x q
          · rw [List.mem_singleton] at q; rw [q]; exact bo)
        have hs2 := hs'
        rw [cps_s] at hs2
        obtain ⟨t1, t2, t3⟩ := so_3 S.2.2.1.1 S.2.2.1.2.1 S.2.2.1.2.2 g2 g3 hs2
        have e2 : sI τ 46 b = sI σ 46 b := S.2.2.2.2.1 b b0 nm
        have e45 : sI τ 45 b = sI σ 45 b := mf_I S.2.2.2.1 rfl
        have e81 : ∀ i, sI τ 81 i = sI σ 81 i := fun i => mf_I S.2.2.2.1 rfl
        obtain ⟨υ, eυ, fυ, u1, u2⟩ := so63 (N := N) (σ := τ) (b := b) (top := T) (v2 := v) (n := capN σ b) (mm_sweepOthers_16 N j) b0 b2 g2 g3 (by rw [e2]; exact g1) (by rw [e2]; exact g4) (by rw [e2]; exact g5) S.2.2.1.1 S.2.2.1.2.1 t1 N 0 (Int32.le_refl _) g2 (big_d hN) τ mf_rfl (fun k k0 k1 => absurd (Int32.lt_of_le_of_lt k0 k1) (Int32.lt_irrefl)) (fun m _ _ => rfl)
        have S' := SOI_m S v0 h hb.symm rfl g2 g3 (fun x hx => (hf x (sub x hx)).2.1) hs' fυ u1 u2
        obtain ⟨τ', T', Mk', U', e, P⟩ := ih (v + -1) (T + capN σ b) _ (Mk ++ [b]) U S' hj'
        refine ⟨τ', T', Mk', U', ?_, P⟩
        rw [← e, ← eυ]
        rw [mm_sweepOthers_16, if_neg v0]
        simp only [lt, sF_fold, sI_fold]
        rw [gd_in (by decide) vr.1 vr.2, e234, if_neg (by rw [h]; decide), hb, gd_in (by decide) b0 b2, e45]
        by_cases c : 0 ≤ sI σ 45 b
        · rw [if_pos c, gd_in (by decide) b0 b2, gd_in (by decide) c g6, e81, mm_sweepOthers_58, capN, if_pos c]
        · rw [if_neg c, mm_sweepOthers_58, capN, if_neg c]
