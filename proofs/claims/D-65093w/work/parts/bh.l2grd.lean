/-! LAYER 2: a guard is set on both sides -/
def sh2 (k : Nat) : Bool := [397, 398].contains k
theorem sh_1 {i n : Int32} (n1 : n ≤ 144) (i0 : 0 ≤ i) (h : i < n) : (0 ≤ i + 1 ∧ i + 1 < 160) ∧ i < 160 ∧ i + 1 < n + 1 ∧ i ≤ i + 1 := ⟨⟨by lia, by lia⟩, by lia, by lia, by lia⟩
theorem sh_2 {i k : Int32} (i0 : 0 ≤ i) (i1 : i < 160) (h : k < i + 1) (ne : ¬ k = i) : k < i := by lia
theorem sh_3 {i k : Int32} (i0 : 0 ≤ i) (i1 : i < 160) (h : i + 1 ≤ k) : k ≠ i ∧ i ≤ k := ⟨by lia, by lia⟩
theorem sh12_lp {N : Nat} {σ : mS} {n : Int32} (hn : sF σ 399 = n) (n1 : n ≤ 144) (tt : ∀ k, 0 ≤ k → k < n + 1 → 0 ≤ sI σ 397 k ∧ sI σ 397 k ≤ 8) (j : Nat) (i : Int32) (i0 : 0 ≤ i) (i1 : i ≤ n) (hj : (n.toInt - i.toInt).toNat < j) : ∀ τ : mS, m_fr sh2 σ τ → (∀ k, 0 ≤ k → k < i → sI τ 397 k = sI σ 397 (k + 1) ∧ sJ τ 398 k = sJ σ 398 (k + 1)) → (∀ k, 0 ≤ k → i ≤ k → sI τ 397 k = sI σ 397 k ∧ sJ τ 398 k = sJ σ 398 k) → ∃ υ, xx6_shiftArgs_b12 N j i τ = some υ ∧ m_fr sh2 σ υ ∧ (∀ k, 0 ≤ k → k < n → sI υ 397 k = sI σ 397 (k + 1) ∧ sJ υ 398 k = sJ σ 398 (k + 1)) := by
  refine loop_up (lo := 0) (m := n) (fun j i => ∀ τ : mS, m_fr sh2 σ τ → (∀ k, 0 ≤ k → k < i → sI τ 397 k = sI σ 397 (k + 1) ∧ sJ τ 398 k = sJ σ 398 (k + 1)) → (∀ k, 0 ≤ k → i ≤ k → sI τ 397 k = sI σ 397 k ∧ sJ τ 398 k = sJ σ 398 k) → ∃ υ, xx6_shiftArgs_b12 N j i τ = some υ ∧ m_fr sh2 σ υ ∧ (∀ k, 0 ≤ k → k < n → sI υ 397 k = sI σ 397 (k + 1) ∧ sJ υ 398 k = sJ σ 398 (k + 1))) ?_ j i i0 i1 hj
  clear hj i0 i1 i j
  intro j i i0 i1 ih τ fr hw ho
  have e3 : sF τ 399 = n := by rw [mf_F fr rfl]; exact hn
  by_cases c : n ≤ i
  · have ek : i = n := Int32.le_antisymm i1 c
    subst ek
    refine ⟨τ, ?_, fr, hw⟩
    simp only [xx6_shiftArgs_b12, sF_fold]
    rw [e3, if_pos c]
  · have c' := Int32.not_le.mp c
    obtain ⟨q1, q2, q3, q4⟩ := sh_1 n1 i0 c'
    have s := ho (i + 1) q1.1 q4
    have t := tt (i + 1) q1.1 q3
    have nt : vp_nar .byte (sI τ 397 (i + 1)) = sI σ 397 (i + 1) := by rw [s.1]; exact nar_tg t.1 t.2
    have s2 := s.2
    have st : xx6_shiftArgs_b12 N (j + 1) i τ = xx6_shiftArgs_b12 N j (i + 1) (md_al (md_ai τ 397 i.toNatClampNeg (sI σ 397 (i + 1))) 398 i.toNatClampNeg (sJ σ 398 (i + 1))) := by
      clear tt ih hw ho s
      simp (disch := first | exact q1.1 | exact q1.2 | exact i0 | exact q2 | lia) only [xx6_shiftArgs_b12, lt, gd_in, if_pos, if_neg, ↓reduceIte, gd_z0, gd_z1, gd_tt, sF_fold, sG_fold, sI_fold, sJ_fold, sF_pi, sF_pl, sF_ai, sF_al, sG_pi, sG_pl, sG_ai, sG_al, sI_pi, sI_pl, sI_al, sI_ai1, sI_ai2, sJ_pi, sJ_pl, sJ_ai, sJ_al1, sJ_al2, Nat.reduceEqDiff, if_true, if_false, ne_eq, not_false_eq_true, ite_true, ite_false, e3, nt, s2]
    rw [st]
    refine ih c' _ (mf_al (mf_ai fr rfl) rfl) (fun k k0 k1 => ?_) (fun k k0 k1 => ?_)
    · simp only [sF_pi, sF_pl, sF_ai, sF_al, sG_pi, sG_pl, sG_ai, sG_al, sI_pi, sI_pl, sI_al, sI_ai1, sI_ai2, sJ_pi, sJ_pl, sJ_ai, sJ_al1, sJ_al2, Nat.reduceEqDiff, if_true, if_false, ne_eq, not_false_eq_true, ite_true, ite_false]
      rw [sI_ai i0 k0, sJ_al i0 k0]
      by_cases z : k = i
      · subst z
        rw [if_pos ⟨rfl, rfl⟩, if_pos ⟨rfl, rfl⟩]; exact ⟨rfl, rfl⟩
      · rw [if_neg (fun y => z y.2), if_neg (fun y => z y.2)]
        simp only [sF_pi, sF_pl, sF_ai, sF_al, sG_pi, sG_pl, sG_ai, sG_al, sI_pi, sI_pl, sI_al, sI_ai1, sI_ai2, sJ_pi, sJ_pl, sJ_ai, sJ_al1, sJ_al2, Nat.reduceEqDiff, if_true, if_false, ne_eq, not_false_eq_true, ite_true, ite_false]
        exact hw k k0 (sh_2 i0 q2 k1 z)
    · obtain ⟨z1, z2⟩ := sh_3 i0 q2 k1
      simp only [sF_pi, sF_pl, sF_ai, sF_al, sG_pi, sG_pl, sG_ai, sG_al, sI_pi, sI_pl, sI_al, sI_ai1, sI_ai2, sJ_pi, sJ_pl, sJ_ai, sJ_al1, sJ_al2, Nat.reduceEqDiff, if_true, if_false, ne_eq, not_false_eq_true, ite_true, ite_false]
      rw [sI_ai i0 k0, sJ_al i0 k0, if_neg (fun y => z1 y.2), if_neg (fun y => z1 y.2)]
      simp only [sF_pi, sF_pl, sF_ai, sF_al, sG_pi, sG_pl, sG_ai, sG_al, sI_pi, sI_pl, sI_al, sI_ai1, sI_ai2, sJ_pi, sJ_pl, sJ_ai, sJ_al1, sJ_al2, Nat.reduceEqDiff, if_true, if_false, ne_eq, not_false_eq_true, ite_true, ite_false]
      exact ho k k0 z2
def sh3 (k : Nat) : Bool := [397, 398, 399].contains k
theorem sh_4 {n : Int32} (n0 : 1 ≤ n) (n1 : n ≤ 145) : 0 ≤ n - 1 ∧ n - 1 ≤ 144 ∧ ∀ k, k < n - 1 + 1 → k < n := ⟨by lia, by lia, fun k hk => by lia⟩
/-- the first argument goes -/
theorem shift_x {N : Nat} (hN : BIG ≤ N) {σ : mS} {n : Int32} (h : sF σ 399 = n) (n0 : 1 ≤ n) (n1 : n ≤ 145) (tt : ∀ k, 0 ≤ k → k < n → 0 ≤ sI σ 397 k ∧ sI σ 397 k ≤ 8) : ∃ τ, xx6_shiftArgs N σ = some τ ∧ m_fr sh3 σ τ ∧ sF τ 399 = n - 1 ∧ (∀ k, 0 ≤ k → k < n - 1 → sI τ 397 k = sI σ 397 (k + 1) ∧ sJ τ 398 k = sJ σ 398 (k + 1)) := by
  obtain ⟨q1, q2, q3⟩ := sh_4 n0 n1
  obtain ⟨υ, u1, u2, u3⟩ := sh12_lp (N := N) (σ := md_pi σ 399 (n - 1)) (n := n - 1) (by simp only [sF_pi, sF_pl, sF_ai, sF_al, sG_pi, sG_pl, sG_ai, sG_al, sI_pi, sI_pl, sI_al, sI_ai1, sI_ai2, sJ_pi, sJ_pl, sJ_ai, sJ_al1, sJ_al2, Nat.reduceEqDiff, if_true, if_false, ne_eq, not_false_eq_true, ite_true, ite_false]) q2 (fun k k0 k1 => by simp only [sF_pi, sF_pl, sF_ai, sF_al, sG_pi, sG_pl, sG_ai, sG_al, sI_pi, sI_pl, sI_al, sI_ai1, sI_ai2, sJ_pi, sJ_pl, sJ_ai, sJ_al1, sJ_al2, Nat.reduceEqDiff, if_true, if_false, ne_eq, not_false_eq_true, ite_true, ite_false]; exact tt k k0 (q3 k k1)) N 0 (by decide) q1 (big_d hN) _ mf_rfl (fun k k0 k1 => absurd k1 (Int32.not_lt.mpr k0)) (fun k _ _ => ⟨rfl, rfl⟩)
  refine ⟨υ, ?_, mf_tr (mf_pi mf_rfl rfl) (mf_mono u2 (fun k hk => ?_)), ?_, fun k k0 k1 => ?_⟩
  · rw [xx6_shiftArgs]
    simp only [lt, sF_fold]
    rw [h]; exact u1
  · simp only [sh2, sh3, List.contains_cons, List.contains_nil, Bool.or_eq_false_iff, beq_eq_false_iff_ne] at hk ⊢
    (repeat' (first | exact trivial | omega | apply And.intro))
  · rw [mf_F u2 rfl]; simp only [sF_pi, sF_pl, sF_ai, sF_al, sG_pi, sG_pl, sG_ai, sG_al, sI_pi, sI_pl, sI_al, sI_ai1, sI_ai2, sJ_pi, sJ_pl, sJ_ai, sJ_al1, sJ_al2, Nat.reduceEqDiff, if_true, if_false, ne_eq, not_false_eq_true, ite_true, ite_false]
  · have := u3 k k0 k1
    simp only [sF_pi, sF_pl, sF_ai, sF_al, sG_pi, sG_pl, sG_ai, sG_al, sI_pi, sI_pl, sI_al, sI_ai1, sI_ai2, sJ_pi, sJ_pl, sJ_ai, sJ_al1, sJ_al2, Nat.reduceEqDiff, if_true, if_false, ne_eq, not_false_eq_true, ite_true, ite_false] at this
    exact this
def rowG (f md rg wt : Int32) (σ : mS) : mS := md_ai (md_ai (md_ai σ 350 f.toNatClampNeg md) 351 f.toNatClampNeg rg) 352 f.toNatClampNeg wt
def rgK (k : Nat) : Bool := [350, 351, 352].contains k
theorem rowG_p {f md rg wt : Int32} {σ : mS} (f0 : 0 ≤ f) : m_fr rgK σ (rowG f md rg wt σ) ∧ sI (rowG f md rg wt σ) 350 f = md ∧ sI (rowG f md rg wt σ) 351 f = rg ∧ sI (rowG f md rg wt σ) 352 f = wt ∧ ∀ h, 0 ≤ h → h ≠ f → ∀ k, sI (rowG f md rg wt σ) k h = sI σ k h := by
  refine ⟨mf_ai (mf_ai (mf_ai mf_rfl rfl) rfl) rfl, ?_, ?_, ?_, fun h h0 ne k => ?_⟩
  · simp (disch := lia) only [rowG, sF_pi, sF_pl, sF_ai, sF_al, sG_pi, sG_pl, sG_ai, sG_al, sI_pi, sI_pl, sI_al, sI_ai1, sI_ai2, sJ_pi, sJ_pl, sJ_ai, sJ_al1, sJ_al2, Nat.reduceEqDiff, if_true, if_false, ne_eq, not_false_eq_true, ite_true, ite_false]
  · simp (disch := lia) only [rowG, sF_pi, sF_pl, sF_ai, sF_al, sG_pi, sG_pl, sG_ai, sG_al, sI_pi, sI_pl, sI_al, sI_ai1, sI_ai2, sJ_pi, sJ_pl, sJ_ai, sJ_al1, sJ_al2, Nat.reduceEqDiff, if_true, if_false, ne_eq, not_false_eq_true, ite_true, ite_false]
  · simp (disch := lia) only [rowG, sF_pi, sF_pl, sF_ai, sF_al, sG_pi, sG_pl, sG_ai, sG_al, sI_pi, sI_pl, sI_al, sI_ai1, sI_ai2, sJ_pi, sJ_pl, sJ_ai, sJ_al1, sJ_al2, Nat.reduceEqDiff, if_true, if_false, ne_eq, not_false_eq_true, ite_true, ite_false]
  · simp only [rowG]
    rw [sI_ai f0 h0, if_neg (fun z => ne z.2), sI_ai f0 h0, if_neg (fun z => ne z.2), sI_ai f0 h0, if_neg (fun z => ne z.2)]
theorem opM_p {kd fn to wn th : Int32} {μ : mS} {n : Int32} (hn : sF μ 154 = n) (n0 : 0 ≤ n) : sF (opM kd fn to wn th μ) 154 = n + 1 ∧ sF (opM kd fn to wn th μ) 155 = sF μ 155 + 1 ∧ mff (opM kd fn to wn th μ) n 0 = kd ∧ mff (opM kd fn to wn th μ) n 5 = to ∧ mff (opM kd fn to wn th μ) n 6 = wn ∧ mff (opM kd fn to wn th μ) n 7 = th ∧ ∀ k j, 0 ≤ k → k < n → j < 10 → mff (opM kd fn to wn th μ) k j = mff μ k j := by
  subst hn
  refine ⟨by simp only [opM, sF_pi, sF_pl, sF_ai, sF_al, sG_pi, sG_pl, sG_ai, sG_al, sI_pi, sI_pl, sI_al, sI_ai1, sI_ai2, sJ_pi, sJ_pl, sJ_ai, sJ_al1, sJ_al2, Nat.reduceEqDiff, if_true, if_false, ne_eq, not_false_eq_true, ite_true, ite_false], by simp only [opM, sF_pi, sF_pl, sF_ai, sF_al, sG_pi, sG_pl, sG_ai, sG_al, sI_pi, sI_pl, sI_al, sI_ai1, sI_ai2, sJ_pi, sJ_pl, sJ_ai, sJ_al1, sJ_al2, Nat.reduceEqDiff, if_true, if_false, ne_eq, not_false_eq_true, ite_true, ite_false], ?_, ?_, ?_, ?_, fun k j k0 k1 hj => ?_⟩
  · simp (disch := lia) only [opM, mff, sF_pi, sF_pl, sF_ai, sF_al, sG_pi, sG_pl, sG_ai, sG_al, sI_pi, sI_pl, sI_al, sI_ai1, sI_ai2, sJ_pi, sJ_pl, sJ_ai, sJ_al1, sJ_al2, Nat.reduceEqDiff, if_true, if_false, ne_eq, not_false_eq_true, ite_true, ite_false]
  · simp (disch := lia) only [opM, mff, sF_pi, sF_pl, sF_ai, sF_al, sG_pi, sG_pl, sG_ai, sG_al, sI_pi, sI_pl, sI_al, sI_ai1, sI_ai2, sJ_pi, sJ_pl, sJ_ai, sJ_al1, sJ_al2, Nat.reduceEqDiff, if_true, if_false, ne_eq, not_false_eq_true, ite_true, ite_false]
  · simp (disch := lia) only [opM, mff, sF_pi, sF_pl, sF_ai, sF_al, sG_pi, sG_pl, sG_ai, sG_al, sI_pi, sI_pl, sI_al, sI_ai1, sI_ai2, sJ_pi, sJ_pl, sJ_ai, sJ_al1, sJ_al2, Nat.reduceEqDiff, if_true, if_false, ne_eq, not_false_eq_true, ite_true, ite_false]
  · simp (disch := lia) only [opM, mff, sF_pi, sF_pl, sF_ai, sF_al, sG_pi, sG_pl, sG_ai, sG_al, sI_pi, sI_pl, sI_al, sI_ai1, sI_ai2, sJ_pi, sJ_pl, sJ_ai, sJ_al1, sJ_al2, Nat.reduceEqDiff, if_true, if_false, ne_eq, not_false_eq_true, ite_true, ite_false]
  · have ne : k ≠ sF μ 154 := fun z => by rw [z] at k1; exact Int32.lt_irrefl k1
    simp only [opM, mff, sF_pi, sF_pl, sF_ai, sF_al, sG_pi, sG_pl, sG_ai, sG_al, sI_pi, sI_pl, sI_al, sI_ai1, sI_ai2, sJ_pi, sJ_pl, sJ_ai, sJ_al1, sJ_al2, Nat.reduceEqDiff, if_true, if_false, ne_eq, not_false_eq_true, ite_true, ite_false]
    rw [sI_ai n0 k0, if_neg (fun z => ne z.2), sI_ai n0 k0, if_neg (fun z => ne z.2), sI_ai n0 k0, if_neg (fun z => ne z.2), sI_ai n0 k0, if_neg (fun z => ne z.2), sI_ai n0 k0, if_neg (fun z => ne z.2), sI_ai n0 k0, if_neg (fun z => ne z.2), sI_ai n0 k0, if_neg (fun z => ne z.2)]
/-- a guard is pushed on both sides -/
theorem guard_CL {e : EV} (E : EVok e) {w : WD} {xf : Int32 → List Int32} {c d : Int32} {rest : PL2} {ct : CT} {σ μ : mS} {o : Int32} (H : CL e w xf c d rest ct σ μ) (h5 : sI μ 141 ct.2.2.2.1 = 5) (jb : sJ μ 142 ct.2.2.2.1 = Int32.toInt64 o) (o0 : 0 ≤ o) (o1 : o < 46) (ho : sF σ 358 < 200) : ∃ f τ0, xx5_push (eN e) σ 0 = some (f, τ0) ∧ (0 ≤ f ∧ f < 202) ∧ m_fr (fun k => qK k || rgK k) σ (rowG f ct.1 ct.2.1 ct.2.2.1 τ0) ∧ sF τ0 358 = sF σ 358 + 1 ∧ CL e w (fU xf c (f :: xf c)) c d rest (0, 0, -1, ct.2.2.2.1 + 1, -1, 3) (rowG f ct.1 ct.2.1 ct.2.2.1 τ0) (opM 1 o ct.2.2.2.1 ct.2.2.2.2.1 ct.2.2.2.2.2 μ) := by
  obtain ⟨N1, N2, N3, N4, N5, N6, N7, N8, N9, N10, N11, N12⟩ := CL_n H
  have f406 := CL_0 H
  have kk := CL_kb H
  have cc := ME_c H.1
  obtain ⟨ncx, pcx⟩ := cX_nd H.1.2.2.2.2.1
  obtain ⟨Mx, V, L⟩ := H
  obtain ⟨p1, p2, p3, p4, p5⟩ := Mx.2.2.2.2.2.2.2.2.1
  obtain ⟨f, τ0, x1, x2, x3, x4, x5, x6, x7, x8, x9, x10⟩ := push_x (EV_N E) (sz := 0) Mx.2.2.2.1 ncx cc.1 (fun q hq => (pcx q hq).1) cc.2.2.1 Mx.2.2.2.2.2.2.1.1 (by decide) (by decide) (len_199 ho p4)
  rw [if_pos rfl] at x8
  obtain ⟨r1, r2, r3, r4, r5⟩ := rowG_p (f := f) (md := ct.1) (rg := ct.2.1) (wt := ct.2.2.1) (σ := τ0) x3.1
  obtain ⟨m1, m2, m3, m4, m5, m6, m7⟩ := opM_p (kd := 1) (fn := o) (to := ct.2.2.2.1) (wn := ct.2.2.2.2.1) (th := ct.2.2.2.2.2) (μ := μ) rfl N2.1
  have X := XF_w x2 r1 rfl rfl rfl (fun k h0 h1 h2 => by
    simp only [rgK, List.contains_cons, List.contains_nil, Bool.or_eq_false_iff, beq_eq_false_iff_ne]
    (repeat' (first | exact trivial | omega | apply And.intro)))
  have frm : m_fr oqM μ (opM 1 o ct.2.2.2.1 ct.2.2.2.2.1 ct.2.2.2.2.2 μ) := opM_fr
  have i141 : ∀ i, sI (opM 1 o ct.2.2.2.1 ct.2.2.2.2.1 ct.2.2.2.2.2 μ) 141 i = sI μ 141 i ∧ sJ (opM 1 o ct.2.2.2.1 ct.2.2.2.2.1 ct.2.2.2.2.2 μ) 142 i = sJ μ 142 i := fun i => ⟨mf_I frm rfl, mf_J frm rfl⟩
  have e358 : sF (rowG f ct.1 ct.2.1 ct.2.2.1 τ0) 358 = sF σ 358 + 1 := by rw [mf_F r1 rfl]; exact x6
  have e355 : sI (rowG f ct.1 ct.2.1 ct.2.2.1 τ0) 355 f = 1 := by rw [mf_I r1 rfl]; exact x8
  have e349 : sI (rowG f ct.1 ct.2.1 ct.2.2.1 τ0) 349 f = 0 := by rw [mf_I r1 rfl]; exact x7
  have frx : m_fr (fun k => qK k || rgK k) σ (rowG f ct.1 ct.2.1 ct.2.2.1 τ0) := mf_tr (mf_mono x5 (fun k hk => by
    simp only [Bool.or_eq_false_iff] at hk; exact hk.1)) (mf_mono r1 (fun k hk => by
    simp only [Bool.or_eq_false_iff] at hk; exact hk.2))
  have fa : ∀ h, h ∈ fAll w xf → h ≠ f ∧ 0 ≤ h := fun h hh => ⟨fun z => x4 (z ▸ hh), (XF_at Mx.2.2.2.1 hh).1.1⟩
  have xc : ∀ h, h ∈ fAll w xf → xcs σ (rowG f ct.1 ct.2.1 ct.2.2.1 τ0) h := fun h hh => xcs_tr (x9 h hh) ⟨fun k _ => r5 h (fa h hh).2 (fa h hh).1 k, fun x _ _ => by
    simp only [xt, xv]
    rw [mf_I (k := 364) r1 rfl, mf_I (k := 347) r1 rfl, mf_J (k := 365) r1 rfl]
    exact ⟨rfl, rfl⟩⟩
  generalize opM 1 o ct.2.2.2.1 ct.2.2.2.2.1 ct.2.2.2.2.2 μ = τm at *
  refine ⟨f, τ0, x1, x3, frx, x6, ?_⟩
  generalize rowG f ct.1 ct.2.1 ct.2.2.1 τ0 = τ at *
  have frp : m_fr ppX σ τ := mf_mono frx (fun k hk => by
    simp only [ppX, inR, Bool.or_eq_false_iff, Bool.and_eq_false_iff, decide_eq_false_iff_not, beq_eq_false_iff_ne] at hk
    simp only [qK, rgK, List.contains_cons, List.contains_nil, Bool.or_eq_false_iff, beq_eq_false_iff_ne]
    (repeat' (first | exact trivial | omega | apply And.intro)))
  have frmp : m_fr ppM μ τm := mf_mono frm (fun k hk => by
    simp only [ppM, inR, List.contains_cons, List.contains_nil, Bool.or_eq_false_iff, beq_eq_false_iff_ne, Bool.and_eq_false_iff, decide_eq_false_iff_not] at hk
    simp only [oqM, List.contains_cons, List.contains_nil, Bool.or_eq_false_iff, beq_eq_false_iff_ne]
    (repeat' (first | exact trivial | omega | apply And.intro)))
  have e162 : sI τm 162 d = sI μ 162 d := mf_I frm rfl
  have e161 : sI τm 161 d = sI μ 161 d := mf_I frm rfl
  have fAl := (fAll_push (w := w) (xf := xf) (f := f) ncx cc.1).length_eq
  simp only [List.length_cons] at fAl
  obtain ⟨P1, P2, P3, P4⟩ := open_n p1 p2 ho p4 N2.1 N2.2.2 p5
  have M' : ME (eS e) (eK e) (eQ e) w (fU xf c (f :: xf c)) c d rest τ τm := ME_pp Mx frp frmp X (fun q hq => fU_o hq) (fun q hq _ h hh => xc h (fAll_mem hq hh)) (fun k j h0 h1 hj => m7 k j h0 (N3 k h1) hj) (fun i _ _ => i141 i) ⟨by rw [e358, m2, p1], by rw [e358]; exact P1, by rw [e358]; exact P2, by rw [e358, fAl]; exact P3, by rw [m2, m1]; exact P4⟩
  have V' : SV e w τ τm := SV_pp V frp frmp (by rw [mf_F frx rfl]; exact f406)
  have cds' : cds w σ τ := cds_fr frx rfl rfl rfl
  refine ⟨M', V', ?_⟩
  rw [fU_s, e162, e161, m1]
  refine ⟨N7, ?_, .inl ⟨x3, e355, e349, ?_, ?_, rfl, rfl, ?_, o, o0, o1, ?_⟩, ?_⟩
  · rw [N9, m4]; exact N8
  · rw [N9]; exact m3
  · rw [N9, m4]
  · rw [N9, m4, (i141 _).1]; exact h5
  · rw [N9, m4, (i141 _).2]; exact jb
  · rw [N9]
    have ctE : ctO τ (mff τm) f (sF μ 154) = ct := by
      simp only [ctO, r2, r3, r4, m4, m5, m6]
    rw [ctE]
    exact FL_cg L kk wle_rfl (fun h hh => xc h (fAll_mem cc.1 hh)) cds' (fun k j h0 h1 hj => m7 k j (N5 k h0) h1 hj) (fun i _ _ => i141 i)
