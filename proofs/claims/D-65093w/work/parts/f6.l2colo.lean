/-! LAYER 2: the reference's collector: tables and entries, whole -/
theorem FM_nil {τ : mS} {es : Int32 → List Int32} (h : ∀ q, 0 ≤ q → q < 32768 → sI τ 38 q = 0) : FM τ [] es (fun _ => []) := by
  refine ⟨fun s hs => absurd hs (by simp), fun q q0 q1 => ⟨?_, by simp, fun e => ⟨fun h => absurd h (by simp), fun ⟨⟨s, hs, _⟩, _⟩ => absurd hs (by simp)⟩⟩, fun s hs => absurd hs (by simp)⟩
  rw [h q q0 q1]
  rfl
/-- what comes behind the tables -/
def seB (N : Nat) (τ : mS) : Option mS := mm_sweepEntries_131 N N 19999 (md_pi τ 40 0)
theorem v_T {v : Int32} (h0 : ¬ v < 0) (h1 : v < 3000) : (0 ≤ v ∧ v < 3000) ∧ (v + -1).toInt = v.toInt - 1 ∧ 0 ≤ v.toInt := by
  have := v_N h0 (Int32.lt_trans h1 (by decide))
  exact ⟨⟨this.1.1, h1⟩, this.2.1, this.2.2.1⟩
theorem se65 {N : Nat} (hN : BIG ≤ N) {σ : mS} {ts : List Int32} {es ps0 : Int32 → List Int32} (M0 : FM σ ts es ps0) (E : EM σ ts es) (ho : ∀ k, 0 ≤ k → k < 3000 → sI σ 233 k = 1 → k ∈ ts) (hm : ∀ k, 0 ≤ k → k < 3000 → sI σ 233 k = 0 ∨ sI σ 233 k = 1) : ∀ (j : Nat) (v : Int32) (τ : mS) (Mk U : List Int32) (ps : Int32 → List Int32) (Ein : List Int32), KO σ τ ts v Mk U es ps Ein → (v.toInt + 1).toNat < j → ∃ τ' Mk' U' ps' Ein', mm_sweepEntries_65 N j v τ = seB N τ' ∧ KO σ τ' ts (-1) Mk' U' es ps' Ein' := by
  intro j
  induction j with
  | zero => intro v τ Mk U ps Ein _ h; omega
  | succ j ih =>
    intro v τ Mk U ps Ein S hj
    by_cases v0 : v < 0
    · have e : v = -1 := by
        have := S.1.1.1
        clear S ih hm ho M0 E
        lia
      subst e
      refine ⟨τ, Mk, U, ps, Ein, ?_, S⟩
      rw [mm_sweepEntries_65, if_pos (by decide)]
      rfl
    · obtain ⟨vr, v1, v2⟩ := v_T v0 S.1.1.2
      have hj' : ((v + -1).toInt + 1).toNat < j := by clear S ih hm ho M0 E; omega
      have e233 : sI τ 233 v = sI σ 233 v := mf_I S.2.2.2.1 rfl
      have ul := DN_len S.1 (by decide)
      have d9 := S.1.2.2.2.2.2.2.2
      have z : (3000 : Int32).toInt = 3000 := rfl
      rw [z] at d9
      rcases hm v vr.1 vr.2 with h | h
      · obtain ⟨D, F, k30, fr, FMt, s3, s4, s5, s6, s7, s8, s9⟩ := S
        have c0 : 0 ≤ sF τ 29 := by rw [F.1]; exact oN_nn (by omega)
        have c1 : sF τ 29 < 3000 := by
          rw [F.1, tI_lt, tI_lit (by omega), z]
          omega
        have frT : m_fr (fun k => [28, 29].contains k) τ (md_pi (md_ai τ 28 (sF τ 29).toNatClampNeg v) 29 (sF τ 29 + 1)) := mf_pi (mf_ai mf_rfl rfl) rfl
        have frU := FRw_s (τ' := md_pi (md_ai τ 28 (sF τ 29).toNatClampNeg v) 29 (sF τ 29 + 1)) (v := v) F (by omega) (by simp only [sF_pi, sF_pl, sF_ai, sF_al, sG_pi, sG_pl, sG_ai, sG_al, sI_pi, sI_pl, sI_al, sI_ai1, sI_ai2, sJ_pi, sJ_pl, sJ_ai, sJ_al1, sJ_al2, Nat.reduceEqDiff, if_true, if_false, ne_eq, not_false_eq_true, ite_true, ite_false]; rw [F.1]) (fun i i0 => by
          rw [sI_pi, sI_ai c0 i0, F.1]
          by_cases q : i = Int32.ofNat U.length
          · rw [if_pos ⟨rfl, q⟩, if_pos q]
          · rw [if_neg (fun h => q h.2), if_neg q])
        have iU : ∀ k i, k ≠ 28 → sI (md_pi (md_ai τ 28 (sF τ 29).toNatClampNeg v) 29 (sF τ 29 + 1)) k i = sI τ k i := fun k i a => by rw [sI_pi, sI_ai1 a]
        have st : mm_sweepEntries_65 N (j + 1) v τ = mm_sweepEntries_65 N j (v + -1) (md_pi (md_ai τ 28 (sF τ 29).toNatClampNeg v) 29 (sF τ 29 + 1)) := by
          rw [mm_sweepEntries_65, if_neg v0]
          simp only [lt, sF_fold, sI_fold]
          rw [gd_in (by decide) vr.1 vr.2, e233, if_pos h, gd_in (by decide) c0 c1]
          rfl
        generalize md_pi (md_ai τ 28 (sF τ 29).toNatClampNeg v) 29 (sF τ 29 + 1) = υ at *
        have A := mf_M (P := fun k => [28, 29].contains k) frT ⟨rfl, rfl, rfl, rfl, rfl⟩
        have S' : KO σ υ ts (v + -1) Mk (U ++ [v]) es ps Ein := by
          refine ⟨DN_u D v0 h (by decide) (by decide) (by decide), frU, by rw [mf_F frT rfl]; exact k30, mf_tr fr (mf_mono frT (fun k hk => by
            simp only [keF, List.contains_cons, List.contains_nil, Bool.or_eq_false_iff, beq_eq_false_iff_ne] at hk
            simp only [List.contains_cons, List.contains_nil, Bool.or_eq_false_iff, beq_eq_false_iff_ne]; (repeat' (first | exact trivial | omega | apply And.intro)))), ⟨fun s hs x hx => ?_, fun q q0 q1 => ?_, fun s hs x y hx hy kq => ?_⟩, fun e e0 e1 => by rw [iU 239 e (by decide)]; exact s3 e e0 e1, by rw [mf_F frT rfl]; exact s4, fun s hs => ?_, fun s hs hn => ?_, s7, s8, s9⟩
          · obtain ⟨c1, c2, c3, c4⟩ := FMt.1 s hs x hx
            rw [iU 31 x (by decide), iU 32 x (by decide), mf_J frT (k := 33) rfl]
            refine ⟨c1, c2, c3, ?_⟩
            simp only [mk_ok, A.1] at c4 ⊢
            exact c4
          · obtain ⟨c1, c2, c3⟩ := FMt.2.1 q q0 q1
            refine ⟨by
              rw [iU 38 q (by decide)]
              exact seg_congr c1 (fun x _ => by rw [iU 37 x (by decide)]), c2, fun x => ?_⟩
            rw [c3 x, iU 31 x (by decide), iU 32 x (by decide), mf_J frT (k := 33) rfl]
            simp only [chf, iU 4 _ (show (4 : Nat) ≠ 28 by decide)]
          · rw [iU 32 x (by decide), mf_J frT (k := 33) rfl, iU 32 y (by decide), mf_J frT (k := 33) rfl] at kq
            simp only [mk_eq, A.2] at kq
            exact FMt.2.2 s hs x y hx hy kq
          · obtain ⟨g1, g2, g3⟩ := s5 s hs
            rw [iU 21 s (by decide), iU 22 s (by decide), iU 24 s (by decide)]
            exact ⟨seg_congr g1 (fun x _ => iU 36 x (by decide)), g2, g3⟩
          · obtain ⟨g1, g2⟩ := s6 s hs hn
            rw [iU 21 s (by decide)]
            exact ⟨g1, fun x hx => by rw [iU 36 x (by decide)]; exact g2 x hx⟩
        rw [st]
        exact ih (v + -1) υ Mk _ ps Ein S' hj'
      · have hMk : ∀ s, s ∈ Mk → s ∈ ts := fun s hs => by
          obtain ⟨k, q1, q2, q3, q4⟩ := S.1.2.2.2.1 s hs
          rw [Int32.zero_add] at q3
          rw [q3]
          exact ho k (Int32.le_trans vr.1 (Int32.le_of_lt q1)) q2 q4
        obtain ⟨τ', ps', h1, S'⟩ := keep_m hN M0 E (ho v vr.1 vr.2 h) hMk S v0 h
        obtain ⟨τ2, Mk', U', ps2, Ein', h2, S2⟩ := ih (v + -1) τ' (Mk ++ [v]) U ps' _ S' hj'
        refine ⟨τ2, Mk', U', ps2, Ein', ?_, S2⟩
        rw [← h2, mm_sweepEntries_65, if_neg v0]
        simp only [lt, sF_fold, sI_fold]
        rw [gd_in (by decide) vr.1 vr.2, e233, if_neg (by rw [h]; decide), h1]
        rfl
/-- entries that are free -/
theorem se131 {N : Nat} {σ : mS} (hm : ∀ k, 0 ≤ k → k < 20000 → sI σ 239 k = 0 ∨ sI σ 239 k = 1) : ∀ (j : Nat) (v : Int32) (τ : mS) (Mk U : List Int32), DN σ 239 0 20000 v Mk U → FRw τ 40 39 U → m_fr (fun k => [39, 40].contains k) σ τ → (v.toInt + 1).toNat < j → ∃ τ' Mk' U', mm_sweepEntries_131 N j v τ = some τ' ∧ DN σ 239 0 20000 (-1) Mk' U' ∧ FRw τ' 40 39 U' ∧ m_fr (fun k => [39, 40].contains k) σ τ' := by
  intro j
  induction j with
  | zero => intro v τ Mk U _ _ _ h; omega
  | succ j ih =>
    intro v τ Mk U D F fr hj
    by_cases v0 : v < 0
    · have e : v = -1 := by
        have := D.1.1
        clear D F ih hm
        lia
      subst e
      exact ⟨τ, Mk, U, by rw [mm_sweepEntries_131, if_pos (by decide)], D, F, fr⟩
    · obtain ⟨b1, b2, b3, b4, b5⟩ := dn_1 v0 D.1.2
      have e239 : sI τ 239 v = sI σ 239 v := mf_I fr rfl
      have ul := DN_len D (by decide)
      have d9 := D.2.2.2.2.2.2.2
      have z : (20000 : Int32).toInt = 20000 := rfl
      rw [z] at d9
      have v2 := tI_le.mp b1
      rw [show (0 : Int32).toInt = 0 from rfl] at v2
      have hj' : ((v + -1).toInt + 1).toNat < j := by clear D F fr ih hm d9 ul; omega
      rcases hm v b1 D.1.2 with h | h
      · have c0 : 0 ≤ sF τ 40 := by rw [F.1]; exact oN_nn (by omega)
        have c1 : sF τ 40 < 20000 := by
          rw [F.1, tI_lt, tI_lit (by omega), z]
          omega
        obtain ⟨τ', Mk', U', e, P⟩ := ih (v + -1) (md_pi (md_ai τ 39 (sF τ 40).toNatClampNeg v) 40 (sF τ 40 + 1)) Mk (U ++ [v]) (DN_u D v0 h (by decide) (by decide) (by decide)) (FRw_s F (by omega) (by simp only [sF_pi, sF_pl, sF_ai, sF_al, sG_pi, sG_pl, sG_ai, sG_al, sI_pi, sI_pl, sI_al, sI_ai1, sI_ai2, sJ_pi, sJ_pl, sJ_ai, sJ_al1, sJ_al2, Nat.reduceEqDiff, if_true, if_false, ne_eq, not_false_eq_true, ite_true, ite_false]; rw [F.1]) (fun i i0 => by
          rw [sI_pi, sI_ai c0 i0, F.1]
          by_cases q : i = Int32.ofNat U.length
          · rw [if_pos ⟨rfl, q⟩, if_pos q]
          · rw [if_neg (fun h => q h.2), if_neg q])) (mf_pi (mf_ai fr rfl) rfl) hj'
        refine ⟨τ', Mk', U', ?_, P⟩
        rw [← e]
        rw [mm_sweepEntries_131, if_neg v0]
        simp only [lt, sF_fold, sI_fold]
        rw [gd_in (by decide) b1 D.1.2, e239, if_pos h, gd_in (by decide) c0 c1]
        rfl
      · obtain ⟨nm, D'⟩ := DN_m D v0 h (by decide) (by decide) (by decide)
        obtain ⟨τ', Mk', U', e, P⟩ := ih (v + -1) τ (Mk ++ [0 + v]) U D' F fr hj'
        refine ⟨τ', Mk', U', ?_, P⟩
        rw [← e]
        rw [mm_sweepEntries_131, if_neg v0]
        simp only [lt, sF_fold, sI_fold]
        rw [gd_in (by decide) b1 D.1.2, e239, if_neg (by rw [h]; decide)]
        rfl
/-- rows that are set to 0 first -/
theorem cz_1 {i n : Int32} (i0 : 0 ≤ i) (h : ¬ n ≤ i) (h2 : n ≤ 32768) : (0 ≤ i ∧ i < n) ∧ 0 ≤ i + 1 ∧ i + 1 ≤ n ∧ (i + 1).toInt = i.toInt + 1 ∧ i.toInt < n.toInt := by
  have q := Int32.not_le.mp h
  have c := cm_1 i0 q h2
  exact ⟨⟨i0, q⟩, c.1, c.2.1, c.2.2.1, tI_lt.mp q⟩
/-- where the tables begin -/
def seA (N : Nat) (τ : mS) : Option mS := mm_sweepEntries_65 N N 2999 (md_pi (md_pi (md_pi τ 30 0) 41 0) 29 0)
theorem se24 {N : Nat} {σ : mS} : ∀ (j : Nat) (i : Int32) (τ : mS), 0 ≤ i → i ≤ 32768 → (32768 - i.toInt).toNat < j → m_fr (fun k => [38, 239].contains k) σ τ → zr τ 239 20000 → zr τ 38 i → ∃ τ', mm_sweepEntries_24 N j i τ = seA N τ' ∧ m_fr (fun k => [38, 239].contains k) σ τ' ∧ zr τ' 239 20000 ∧ zr τ' 38 32768 := by
  intro j
  induction j with
  | zero => intro i τ _ _ h; omega
  | succ j ih =>
    intro i τ i0 i1 hj fr z1 z2
    rw [mm_sweepEntries_24, show Int32.ofNat 32768 = 32768 from rfl]
    by_cases c : 32768 ≤ i
    · have e := Int32.le_antisymm i1 c
      subst e
      rw [if_pos c]
      exact ⟨τ, rfl, fr, z1, z2⟩
    · obtain ⟨r1, r2, r3, r4, r5⟩ := cz_1 i0 c (by decide)
      rw [show (32768 : Int32).toInt = 32768 from rfl] at r5
      rw [if_neg c, gd_in (by decide) r1.1 r1.2]
      simp only [lt]
      exact ih (i + 1) _ r2 r3 (by omega) (mf_ai fr rfl) (zr_o z1 (by decide)) (zr_s i0 r1.2 (by decide) z2)
theorem se2 {N : Nat} (hN : BIG ≤ N) {σ : mS} : ∀ (j : Nat) (i : Int32) (τ : mS), 0 ≤ i → i ≤ 20000 → (20000 - i.toInt).toNat < j → m_fr (fun k => [38, 239].contains k) σ τ → zr τ 239 i → ∃ τ', mm_sweepEntries_2 N j i τ = seA N τ' ∧ m_fr (fun k => [38, 239].contains k) σ τ' ∧ zr τ' 239 20000 ∧ zr τ' 38 32768 := by
  intro j
  induction j with
  | zero => intro i τ _ _ h; omega
  | succ j ih =>
    intro i τ i0 i1 hj fr z1
    rw [mm_sweepEntries_2]
    by_cases c : 20000 ≤ i
    · have e := Int32.le_antisymm i1 c
      subst e
      rw [if_pos c]
      exact se24 N 0 τ (by decide) (by decide) (by simp only [BIG] at hN; rw [show (0 : Int32).toInt = 0 from rfl]; omega) fr z1 (fun k k0 k1 => absurd (Int32.lt_of_le_of_lt k0 k1) Int32.lt_irrefl)
    · obtain ⟨r1, r2, r3, r4, r5⟩ := cz_1 i0 c (by decide)
      rw [show (20000 : Int32).toInt = 20000 from rfl] at r5
      rw [if_neg c, gd_in (by decide) r1.1 r1.2]
      simp only [lt, nar_b0]
      exact ih (i + 1) _ r2 r3 (by omega) (mf_ai fr rfl) (zr_s i0 r1.2 (by decide) z1)
