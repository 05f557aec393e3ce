/-! LAYER 2: the reference's collector: strings, the loop over all -/
def szs (σ : mS) (l : List Int32) : Int := (l.map (fun b => (sI σ 3 b).toInt)).sum
def ssF (k : Nat) : Bool := [2, 11, 13, 14, 15].contains k
def SSI (σ τ : mS) (v T : Int32) (Mk U : List Int32) : Prop := DN σ 232 30000 12000 v Mk U ∧ FRw τ 15 14 U ∧ (0 ≤ T ∧ T ≤ 300000 ∧ T.toInt = szs σ Mk) ∧ m_fr ssF σ τ ∧ (∀ b, 0 ≤ b → b ∉ Mk → sI τ 2 b = sI σ 2 b) ∧ (∀ b, b ∈ Mk → 0 ≤ sI τ 2 b ∧ sI τ 2 b ≤ 300000 ∧ sI τ 2 b + sI σ 3 b ≤ T ∧ ∀ k, 0 ≤ k → k < sI σ 3 b → sI τ 11 (sI τ 2 b + k) &&& 255 = sI σ 10 (sI σ 2 b + k) &&& 255) ∧ sF τ 13 = Int32.ofNat Mk.length
theorem DN_len {σ : mS} {mf : Nat} {p M v : Int32} {Mk U : List Int32} (D : DN σ mf p M v Mk U) (M1 : M ≤ 32768) : U.length ≤ 40000 ∧ Mk.length ≤ 40000 := by
  have d9 := D.2.2.2.2.2.2.2
  have d1 := D.1.1
  have mI := tI_le.mp M1
  rw [show (32768 : Int32).toInt = 32768 from rfl] at mI
  have a := tI_le.mp d1
  rw [show (-1 : Int32).toInt = -1 from rfl] at a
  omega
theorem SSI_u {σ τ : mS} {v T : Int32} {Mk U : List Int32} (S : SSI σ τ v T Mk U) (h0 : ¬ v < 0) (hv : sI σ 232 v = 0) : SSI σ (md_pi (md_ai τ 14 (sF τ 15).toNatClampNeg v) 15 (sF τ 15 + 1)) (v + -1) T Mk (U ++ [v]) := by
  obtain ⟨D, F, hT, fr, s2, s3, s4⟩ := S
  have ul := DN_len D (by decide)
  have c0 : 0 ≤ sF τ 15 := by rw [F.1]; exact oN_nn (by omega)
  refine ⟨DN_u D h0 hv (by decide) (by decide) (by decide), ?_, hT, mf_pi (mf_ai fr rfl) rfl, fun b b0 hb => ?_, fun b hb => ?_, ?_⟩
  · refine FRw_s F (by omega) (by simp only [sF_pi, sF_pl, sF_ai, sF_al, sG_pi, sG_pl, sG_ai, sG_al, sI_pi, sI_pl, sI_al, sI_ai1, sI_ai2, sJ_pi, sJ_pl, sJ_ai, sJ_al1, sJ_al2, Nat.reduceEqDiff, if_true, if_false, ne_eq, not_false_eq_true, ite_true, ite_false]; rw [F.1]) (fun i i0 => ?_)
    rw [sI_pi, sI_ai c0 i0, F.1]
    by_cases q : i = Int32.ofNat U.length
    · rw [if_pos ⟨rfl, q⟩, if_pos q]
    · rw [if_neg (fun h => q h.2), if_neg q]
  · simp (disch := decide) only [sF_pi, sF_pl, sF_ai, sF_al, sG_pi, sG_pl, sG_ai, sG_al, sI_pi, sI_pl, sI_al, sI_ai1, sI_ai2, sJ_pi, sJ_pl, sJ_ai, sJ_al1, sJ_al2, Nat.reduceEqDiff, if_true, if_false, ne_eq, not_false_eq_true, ite_true, ite_false]
    exact s2 b b0 hb
  · simp (disch := decide) only [sF_pi, sF_pl, sF_ai, sF_al, sG_pi, sG_pl, sG_ai, sG_al, sI_pi, sI_pl, sI_al, sI_ai1, sI_ai2, sJ_pi, sJ_pl, sJ_ai, sJ_al1, sJ_al2, Nat.reduceEqDiff, if_true, if_false, ne_eq, not_false_eq_true, ite_true, ite_false]
    exact s3 b hb
  · simp (disch := decide) only [sF_pi, sF_pl, sF_ai, sF_al, sG_pi, sG_pl, sG_ai, sG_al, sI_pi, sI_pl, sI_al, sI_ai1, sI_ai2, sJ_pi, sJ_pl, sJ_ai, sJ_al1, sJ_al2, Nat.reduceEqDiff, if_true, if_false, ne_eq, not_false_eq_true, ite_true, ite_false]
    exact s4
theorem szs_s {σ : mS} {l : List Int32} {b : Int32} : szs σ (l ++ [b]) = szs σ l + (sI σ 3 b).toInt := by
  simp only [szs, List.map_append, List.map_cons, List.map_nil, List.sum_append, List.sum_cons, List.sum_nil]
  omega
theorem ss_3 {T n : Int32} {s : Int} (T0 : 0 ≤ T) (T1 : T ≤ 300000) (hT : T.toInt = s) (n0 : 0 ≤ n) (n1 : n ≤ 300000) (h : s + n.toInt ≤ 300000) : T + n ≤ 300000 ∧ 0 ≤ T + n ∧ (T + n).toInt = s + n.toInt := by
  rw [tI_le] at T0 T1 n0 n1
  have z : (0 : Int32).toInt = 0 := rfl
  have z3 : (300000 : Int32).toInt = 300000 := rfl
  have e : (T + n).toInt = T.toInt + n.toInt := tI_add (by omega) (by omega)
  rw [tI_le, tI_le, e]
  omega
theorem ss_4 {a n T m : Int32} (h0 : 0 ≤ a) (h1 : a ≤ 300000) (h2 : a + n ≤ T) (n1 : n ≤ 300000) (T1 : T ≤ 300000) (m0 : 0 ≤ m) (m1 : m < n) : 0 ≤ a + m ∧ a + m < T := ⟨by lia, by lia⟩
theorem ss_5 {T n a m : Int32} (T0 : 0 ≤ T) (T1 : T + n ≤ 300000) (n0 : 0 ≤ n) (T2 : T ≤ 300000) (n1 : n ≤ 300000) (m0 : 0 ≤ m) (h : a + m ≤ T) : a + m ≤ T + n := by lia
theorem SSI_m {σ τ υ : mS} {v T b n : Int32} {Mk U : List Int32} (S : SSI σ τ v T Mk U) (h0 : ¬ v < 0) (hv : sI σ 232 v = 1) (hb : b = 30000 + v) (hn : sI σ 3 b = n) (n0 : 0 ≤ n) (n1 : n ≤ 300000) (hz : ∀ x, x ∈ Mk → 0 ≤ sI σ 3 x ∧ sI σ 3 x ≤ 300000) (hs : szs σ (Mk ++ [b]) ≤ 300000) (fr' : m_fr (fun k => k == 11) τ υ) (u1 : ∀ k, 0 ≤ k → k < n → sI υ 11 (T + k) &&& 255 = sI τ 10 (sI τ 2 b + k) &&& 255) (u2 : ∀ m, 0 ≤ m → m < T → sI υ 11 m = sI τ 11 m) : SSI σ (md_pi (md_ai υ 2 b.toNatClampNeg T) 13 (sF τ 13 + 1)) (v + -1) (T + n) (Mk ++ [b]) U := by
  obtain ⟨D, F, ⟨T0, T1, hT⟩, fr, s2, s3, s4⟩ := S
  have ul := DN_len D (by decide)
  obtain ⟨nm, D'⟩ := DN_m D h0 hv (by decide) (by decide) (by decide)
  rw [← hb] at nm D'
  have b0 : 0 ≤ b := by
    rw [hb]
    have a := Int32.not_lt.mp h0
    have c := D.1.2
    clear D D' F fr s2 s3 u1 u2 hz
    lia
  rw [szs_s, hn] at hs
  obtain ⟨t1, t2, t3⟩ := ss_3 T0 T1 hT n0 n1 hs
  have e10 : ∀ i, sI τ 10 i = sI σ 10 i := fun i => mf_I fr rfl
  refine ⟨D', FRw_fr (FRw_fr F fr' rfl rfl) (mf_pi (mf_ai (mf_rfl (P := fun k => [2, 13].contains k)) rfl) rfl) rfl rfl, ⟨t2, t1, by rw [szs_s, hn, t3]⟩, mf_pi (mf_ai (mf_tr fr (mf_mono fr' (fun k hk => by
      simp only [ssF, List.contains_cons, List.contains_nil, Bool.or_eq_false_iff, beq_eq_false_iff_ne] at hk
      simp only [beq_eq_false_iff_ne]; omega))) rfl) rfl, fun c c0 hc => ?_, fun c hc => ?_, ?_⟩
  · rw [List.mem_append, List.mem_singleton, not_or] at hc
    rw [sI_pi, sI_ai b0 c0, if_neg (fun h => hc.2 h.2), mf_I fr' rfl]
    exact s2 c c0 hc.1
  · have at2 : ∀ c, 0 ≤ c → sI (md_pi (md_ai υ 2 b.toNatClampNeg T) 13 (sF τ 13 + 1)) 2 c = if c = b then T else sI τ 2 c := fun c c0 => by
      rw [sI_pi, sI_ai b0 c0, mf_I fr' rfl]
      by_cases q : c = b
      · rw [if_pos ⟨rfl, q⟩, if_pos q]
      · rw [if_neg (fun h => q h.2), if_neg q]
    have at11 : ∀ i, sI (md_pi (md_ai υ 2 b.toNatClampNeg T) 13 (sF τ 13 + 1)) 11 i = sI υ 11 i := fun i => by rw [sI_pi, sI_ai1 (by decide)]
    rcases List.mem_append.mp hc with h | h
    · have c0 : 0 ≤ c := by
        obtain ⟨k, q1, q2, q3, _⟩ := D.2.2.2.1 c h
        rw [q3]
        clear D D' F fr s2 s3 u1 u2 hz at2 at11
        lia
      have ne : ¬ c = b := fun q => nm (by rw [← q]; exact h)
      obtain ⟨a1, a2, a3, a4⟩ := s3 c h
      obtain ⟨z0, z1⟩ := hz c h
      rw [at2 c c0, if_neg ne]
      refine ⟨a1, a2, ss_5 T0 t1 n0 T1 n1 z0 a3, fun k k0 k1 => ?_⟩
      obtain ⟨r0, r1⟩ := ss_4 a1 a2 a3 z1 T1 k0 k1
      rw [at11, u2 _ r0 r1]
      exact a4 k k0 k1
    · rw [List.mem_singleton] at h
      subst h
      rw [at2 c b0, if_pos rfl, hn]
      refine ⟨T0, T1, Int32.le_refl _, fun k k0 k1 => ?_⟩
      rw [at11, u1 k k0 k1, e10, s2 c b0 nm]
  · rw [sF_pi, if_pos rfl, s4, List.length_append, List.length_singleton]
    exact oN_s
theorem v_N {v : Int32} (h0 : ¬ v < 0) (h1 : v < 12000) : (0 ≤ v ∧ v < 12000) ∧ (v + -1).toInt = v.toInt - 1 ∧ 0 ≤ v.toInt ∧ (0 ≤ 30000 + v ∧ 30000 ≤ 30000 + v ∧ 30000 + v < 42000) := by
  have h := Int32.not_lt.mp h0
  have a := tI_le.mp h
  have b := tI_rng v
  rw [show (0 : Int32).toInt = 0 from rfl] at a
  have e1 : (-1 : Int32).toInt = -1 := rfl
  refine ⟨⟨h, h1⟩, ?_, a, by lia, by lia, by lia⟩
  rw [tI_add (by rw [e1]; omega) (by rw [e1]; omega), e1]
  omega
theorem ss16 {N : Nat} (hN : BIG ≤ N) {σ : mS} {o : List Int32} (H : SM σ o) (ho : ∀ k, 0 ≤ k → k < 12000 → sI σ 232 k = 1 → 30000 + k ∈ o) (hm : ∀ k, 0 ≤ k → k < 12000 → sI σ 232 k = 0 ∨ sI σ 232 k = 1) (hs : ∀ l : List Int32, l.Nodup → (∀ x, x ∈ l → x ∈ o) → szs σ l ≤ 300000) : ∀ (j : Nat) (v T : Int32) (τ : mS) (Mk U : List Int32), SSI σ τ v T Mk U → (v.toInt + 1).toNat < j → ∃ τ' T' Mk' U', mm_sweepStrings_16 N j T v τ = some (md_pi (md_sw 300 10 11 τ') 12 T') ∧ SSI σ τ' (-1) T' Mk' U' := by
  intro j
  induction j with
  | zero => intro v T τ Mk U _ h; omega
  | succ j ih =>
    intro v T τ Mk U S hj
    by_cases v0 : v < 0
    · have e : v = -1 := by
        have := S.1.1.1
        clear S ih hs hm ho H
        lia
      subst e
      refine ⟨τ, T, Mk, U, ?_, S⟩
      rw [mm_sweepStrings_16, if_pos (by decide)]
      rfl
    · obtain ⟨vr, v1, v2, b0, b1, b2⟩ := v_N v0 S.1.1.2
      have hj' : ((v + -1).toInt + 1).toNat < j := by clear S ih hs hm ho H; omega
      have e232 : sI τ 232 v = sI σ 232 v := mf_I S.2.2.2.1 rfl
      have ul := DN_len S.1 (by decide)
      have d9 := S.1.2.2.2.2.2.2.2
      rcases hm v vr.1 vr.2 with h | h
      · have S' := SSI_u S v0 h
        have c15 : 0 ≤ sF τ 15 ∧ sF τ 15 < 12000 := by
          rw [S.2.1.1]
          have z : (12000 : Int32).toInt = 12000 := rfl
          rw [z] at d9
          refine ⟨oN_nn (by omega), ?_⟩
          rw [tI_lt, tI_lit (by omega), z]
          omega
        obtain ⟨τ', T', Mk', U', e, P⟩ := ih (v + -1) T _ Mk _ S' hj'
        refine ⟨τ', T', Mk', U', ?_, P⟩
        rw [← e]
        rw [mm_sweepStrings_16, if_neg v0]
        simp only [lt, sF_fold, sI_fold]
        rw [gd_in (by decide) vr.1 vr.2, e232, if_pos h, gd_in (by decide) c15.1 c15.2]
        rfl
      · generalize hb : (30000 : Int32) + v = b at *
        have bo : b ∈ o := by rw [← hb]; exact ho v vr.1 vr.2 h
        obtain ⟨g1, g2, g3, g4, g5, g6⟩ := H.2.2.2.2 b bo
        have sub : ∀ x, x ∈ Mk → x ∈ o := fun x hx => by
          obtain ⟨k, q1, q2, q3, q4⟩ := S.1.2.2.2.1 x hx
          rw [q3]
          exact ho k (by clear S ih hs hm ho H g1 g2 g3 g4 g5 g6; lia) q2 q4
        obtain ⟨nm, D'⟩ := DN_m S.1 v0 h (by decide) (by decide) (by decide)
        rw [hb] at nm D'
        have nd : (Mk ++ [b]).Nodup := D'.2.2.2.2.2.1
        have hs' := hs (Mk ++ [b]) nd (fun x hx => by
          rcases List.mem_append.mp hx with q | q
          · exact sub x q
          · rw [List.mem_singleton] at q; rw [q]; exact bo)
        have hs2 := hs'
        rw [szs_s] at hs2
        obtain ⟨t1, t2, t3⟩ := ss_3 S.2.2.1.1 S.2.2.1.2.1 S.2.2.1.2.2 g2 g3 hs2
        have e2 : sI τ 2 b = sI σ 2 b := S.2.2.2.2.1 b b0 nm
        have e3 : sI τ 3 b = sI σ 3 b := mf_I S.2.2.2.1 rfl
        have gB : sI σ 2 b + sI σ 3 b ≤ 300000 := Int32.le_trans g5 H.2.2.2.1
        obtain ⟨υ, eυ, fυ, u1, u2⟩ := ss38 (N := N) (σ := τ) (b := b) (top := T) (v2 := v) (n := sI σ 3 b) (mm_sweepStrings_16 N j) b0 b2 e3 g2 g3 (by rw [e2]; exact g1) (by rw [e2]; exact g4) (by rw [e2]; exact gB) S.2.2.1.1 S.2.2.1.2.1 t1 N 0 (Int32.le_refl _) g2 (big_d hN) τ mf_rfl (fun k k0 k1 => absurd (Int32.lt_of_le_of_lt k0 k1) (Int32.lt_irrefl)) (fun m _ _ => rfl)
        have S' := SSI_m S v0 h hb.symm rfl g2 g3 (fun x hx => ⟨(H.2.2.2.2 x (sub x hx)).2.1, (H.2.2.2.2 x (sub x hx)).2.2.1⟩) hs' fυ u1 u2
        obtain ⟨τ', T', Mk', U', e, P⟩ := ih (v + -1) (T + sI σ 3 b) _ (Mk ++ [b]) U S' hj'
        refine ⟨τ', T', Mk', U', ?_, P⟩
        rw [← e, ← eυ]
        rw [mm_sweepStrings_16, if_neg v0]
        simp only [lt, sF_fold, sI_fold]
        rw [gd_in (by decide) vr.1 vr.2, e232, if_neg (by rw [h]; decide), hb]
/-- the strings that are not marked go -/
theorem sweepS_m {N : Nat} (hN : BIG ≤ N) {σ : mS} {o : List Int32} (H : SM σ o) (ho : ∀ k, 0 ≤ k → k < 12000 → sI σ 232 k = 1 → 30000 + k ∈ o) (hm : ∀ k, 0 ≤ k → k < 12000 → sI σ 232 k = 0 ∨ sI σ 232 k = 1) (hs : ∀ l : List Int32, l.Nodup → (∀ x, x ∈ l → x ∈ o) → szs σ l ≤ 300000) : ∃ υ Mk, mm_sweepStrings N σ = some υ ∧ SM υ Mk ∧ (∀ b, b ∈ Mk ↔ ∃ k, 0 ≤ k ∧ k < 12000 ∧ b = 30000 + k ∧ sI σ 232 k = 1) ∧ (∀ b, b ∈ Mk → sI υ 3 b = sI σ 3 b ∧ sI υ 4 b = sI σ 4 b ∧ ∀ k, 0 ≤ k → k < sI σ 3 b → m_by υ b k = m_by σ b k) ∧ (∀ b, 0 ≤ b → b < 30000 → m_sm σ υ b) ∧ (sF υ 12).toInt = szs σ Mk ∧ m_fr (fun k => [2, 10, 11, 12, 13, 14, 15, 300].contains k) σ υ := by
  have S0 : SSI σ (md_pi (md_pi σ 13 0) 15 0) 11999 0 [] [] := by
    refine ⟨?_, ⟨by simp only [sF_pi, sF_pl, sF_ai, sF_al, sG_pi, sG_pl, sG_ai, sG_al, sI_pi, sI_pl, sI_al, sI_ai1, sI_ai2, sJ_pi, sJ_pl, sJ_ai, sJ_al1, sJ_al2, Nat.reduceEqDiff, if_true, if_false, ne_eq, not_false_eq_true, ite_true, ite_false]; rfl, fun j hj => absurd hj (by simp)⟩, ⟨by decide, by decide, rfl⟩, mf_pi (mf_pi mf_rfl rfl) rfl, fun b _ _ => by simp only [sF_pi, sF_pl, sF_ai, sF_al, sG_pi, sG_pl, sG_ai, sG_al, sI_pi, sI_pl, sI_al, sI_ai1, sI_ai2, sJ_pi, sJ_pl, sJ_ai, sJ_al1, sJ_al2, Nat.reduceEqDiff, if_true, if_false, ne_eq, not_false_eq_true, ite_true, ite_false], fun b hb => absurd hb (by simp), by simp only [sF_pi, sF_pl, sF_ai, sF_al, sG_pi, sG_pl, sG_ai, sG_al, sI_pi, sI_pl, sI_al, sI_ai1, sI_ai2, sJ_pi, sJ_pl, sJ_ai, sJ_al1, sJ_al2, Nat.reduceEqDiff, if_true, if_false, ne_eq, not_false_eq_true, ite_true, ite_false]; rfl⟩
    exact DN_0 (M := 12000) (by decide) (by decide)
  obtain ⟨τ, T, Mk, U, e, S⟩ := ss16 hN H ho hm hs N 11999 0 _ [] [] S0 (by
    have : (11999 : Int32).toInt = 11999 := rfl
    simp only [BIG] at hN
    omega)
  obtain ⟨D, F, ⟨T0, T1, hT⟩, fr, s2, s3, s4⟩ := S
  have ul := DN_len D (by decide)
  have fs := DN_FS D F (by decide) (by decide) (by decide) (by decide)
  have mk : ∀ b, b ∈ Mk ↔ ∃ k, 0 ≤ k ∧ k < 12000 ∧ b = 30000 + k ∧ sI σ 232 k = 1 := fun b => by
    refine ⟨fun hb => ?_, fun ⟨k, k0, k1, q, hk⟩ => ?_⟩
    · obtain ⟨k, q1, q2, q3, q4⟩ := D.2.2.2.1 b hb
      exact ⟨k, by clear D F fs; lia, q2, q3, q4⟩
    · rw [q]
      exact (D.2.1 k (by clear D F fs; lia) k1).mp hk
  have sub : ∀ x, x ∈ Mk → x ∈ o := fun x hx => by
    obtain ⟨k, k0, k1, q, hk⟩ := (mk x).mp hx
    rw [q]; exact ho k k0 k1 hk
  have rg : ∀ x, x ∈ Mk → 30000 ≤ x ∧ 0 ≤ x := fun x hx => by
    obtain ⟨k, k0, k1, q, hk⟩ := (mk x).mp hx
    rw [q]
    clear D F fs mk
    exact ⟨by lia, by lia⟩
  generalize hυ : md_pi (md_sw 300 10 11 τ) 12 T = υ at e
  have i10 : ∀ i, sI υ 10 i = sI τ 11 i := fun i => by
    rw [← hυ, sI_pi]
    simp only [sI, md_sw, va_up]
    rfl
  have iO : ∀ k i, k ≠ 10 → k ≠ 11 → sI υ k i = sI τ k i := fun k i h1 h2 => by
    rw [← hυ, sI_pi]
    simp only [sI, md_sw, va_up, if_neg h1, if_neg h2]
  have fO : ∀ k, k ≠ 12 → k ≠ 300 → sF υ k = sF τ k := fun k h1 h2 => by
    rw [← hυ, sF_pi, if_neg h1]
    simp only [sF, md_sw, upd, if_neg h2]
  have f12 : sF υ 12 = T := by rw [← hυ, sF_pi, if_pos rfl]
  have frυ : m_fr (fun k => [2, 10, 11, 12, 13, 14, 15, 300].contains k) σ υ := by
    refine mf_tr (mf_mono fr (fun k hk => ?_)) ⟨fun k hk => ?_, fun k hk => ?_, fun k hk => ?_, fun k hk => ?_⟩
    · simp only [ssF, List.contains_cons, List.contains_nil, Bool.or_eq_false_iff, beq_eq_false_iff_ne] at hk ⊢; (repeat' (first | exact trivial | omega | apply And.intro))
    · simp only [List.contains_cons, List.contains_nil, Bool.or_eq_false_iff, beq_eq_false_iff_ne] at hk
      exact fO k (by omega) (by omega)
    · rw [← hυ]; rfl
    · simp only [List.contains_cons, List.contains_nil, Bool.or_eq_false_iff, beq_eq_false_iff_ne] at hk
      rw [← hυ]
      simp only [pi_I, md_sw, va_up]
      rw [if_neg (by omega), if_neg (by omega)]
    · rw [← hυ]; rfl
  have e3 : ∀ b, sI υ 3 b = sI σ 3 b := fun b => by rw [iO 3 b (by decide) (by decide)]; exact mf_I fr rfl
  have e4 : ∀ b, sI υ 4 b = sI σ 4 b := fun b => by rw [iO 4 b (by decide) (by decide)]; exact mf_I fr rfl
  have e7 : ∀ b, sI υ 7 b = sI σ 7 b := fun b => by rw [iO 7 b (by decide) (by decide)]; exact mf_I fr rfl
  have e2 : ∀ b, sI υ 2 b = sI τ 2 b := fun b => iO 2 b (by decide) (by decide)
  have sm : ∀ b, b ∈ Mk → sI υ 3 b = sI σ 3 b ∧ sI υ 4 b = sI σ 4 b ∧ ∀ k, 0 ≤ k → k < sI σ 3 b → m_by υ b k = m_by σ b k := fun b hb => by
    obtain ⟨a1, a2, a3, a4⟩ := s3 b hb
    have r := rg b hb
    refine ⟨e3 b, e4 b, fun k k0 k1 => ?_⟩
    rw [m_by, m_by, if_neg (Int32.not_lt.mpr r.1), if_neg (Int32.not_lt.mpr r.1), e2, i10]
    exact a4 k k0 k1
  refine ⟨υ, Mk, ?_, ⟨?_, ?_, by rw [f12]; exact T0, by rw [f12]; exact T1, fun x hx => ?_⟩, mk, sm, ?_, by rw [f12]; exact hT, frυ⟩
  · rw [← e]
    rfl
  · have q : ∀ {a b c : Int32 → Int32} {d f : Int32}, a = b → d = f → FS b f 12000 30000 Mk → FS a d 12000 30000 Mk := fun h1 h2 h3 => by rw [h1, h2]; exact h3
    refine q (c := sI υ 14) ?_ (fO 15 (by decide) (by decide)) fs
    funext i
    exact iO 14 i (by decide) (by decide)
  · rw [fO 13 (by decide) (by decide), s4, tI_lit (by omega)]
  · obtain ⟨a1, a2, a3, a4⟩ := s3 x hx
    obtain ⟨g1, g2, g3, g4, g5, g6⟩ := H.2.2.2.2 x (sub x hx)
    obtain ⟨c1, c2, c3⟩ := sm x hx
    rw [e2, c1, f12]
    refine ⟨a1, g2, g3, a2, a3, ?_⟩
    rw [m_hs, c2, m_sz, c1]
    rw [m_hs, m_sz] at g6
    rw [g6]
    exact (hof_congr g2 c3).symm
  · intro b b0 b1
    have nm : b ∉ Mk := fun q => absurd (rg b q).1 (Int32.not_le.mpr b1)
    refine ⟨by rw [e2]; exact s2 b b0 nm, e3 b, e4 b, fun k k0 k1 => ?_⟩
    rw [m_by, m_by, if_pos b1, if_pos b1, e2, e7, s2 b b0 nm]
