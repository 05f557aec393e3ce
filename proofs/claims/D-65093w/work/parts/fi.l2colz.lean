/-! LAYER 2: the system's collector: all sweeps -/
theorem TX_sm {σ τ : mS} {sl : Int32 → Int32} (H : TX σ sl) (e11 : sF τ 133 = sF σ 133) (e12 : sF τ 134 = sF σ 134) (i135 : sI τ 135 = sI σ 135) (e13 : ∀ m, sI τ 132 m = sI σ 132 m) (sm : ∀ g, 12000 ≤ g → x_sm σ τ g) : TX τ sl := by
  obtain ⟨t1, t2, t3, t4, t5, t6, t7, t8, t9, t10, t11, t12⟩ := H
  simp only [TX]
  rw [e11, e12, i135]
  refine ⟨t1, t2, t3, t4, ?_, fun h h0 h1 => ?_, fun h h0 h1 h2 => ?_, fun g h g0 gh h1 => ?_, fun q => ?_, ⟨t10.1, fun q => ?_⟩, fun g h g0 g1 h0 h1 q => ?_, fun m m0 m1 => ?_⟩
  · refine ⟨fun h h0 h1 => ?_, t5.2⟩
    have := t5.1 h h0 h1
    rw [(sm h h0).2.2.1]
    exact this
  · obtain ⟨q1, q2, q3, q4, q5, q6⟩ := t6 h h0 h1
    have s := sm h h0
    rw [s.1, s.2.1]
    exact ⟨q1, q2, q3, q4, q5, sm_hs s q2 q6⟩
  · rw [(sm h h0).1, (sm h h0).2.1, (sm (h + 1) (by lia)).1]; exact t7 h h0 h1 h2
  · rw [(sm g g0).1, (sm g g0).2.1, (sm h (by lia)).1]; exact t8 g h g0 gh h1
  · rw [(sm _ (by lia)).1, (sm _ (by lia)).2.1]; exact t9 q
  · rw [(sm 12000 (by decide)).1]; exact t10.2 q
  · exact t11 g h g0 g1 h0 h1 ((sm_eq (sm g g0) (sm h h0)).mp q)
  · rw [e13]; exact t12 m m0 m1
theorem PR_1 {w : WD} {a : Int32} {o : OB2} (p : PR w (1, a) o) : a ∈ (wS w).map Prod.fst := by
  rcases p with ⟨_, _, p⟩ | ⟨e, _⟩ | ⟨e, _⟩ | ⟨e, _⟩ | ⟨e, _⟩
  · exact List.mem_map.mpr ⟨_, p, rfl⟩
  · exact absurd (show (1 : Nat) = 2 from e) (by decide)
  · exact absurd (show (1 : Nat) = 3 from e) (by decide)
  · exact absurd (show (1 : Nat) = 4 from e) (by decide)
  · exact absurd (show (1 : Nat) = 5 from e) (by decide)
theorem PR_3 {w : WD} {a : Int32} {o : OB2} (p : PR w (3, a) o) : a ∈ (wF w).map Prod.fst := by
  rcases p with ⟨e, _⟩ | ⟨e, _⟩ | ⟨_, _, p⟩ | ⟨e, _⟩ | ⟨e, _⟩
  · exact absurd (show (3 : Nat) = 1 from e) (by decide)
  · exact absurd (show (3 : Nat) = 2 from e) (by decide)
  · exact List.mem_map.mpr ⟨_, p, rfl⟩
  · exact absurd (show (3 : Nat) = 4 from e) (by decide)
  · exact absurd (show (3 : Nat) = 5 from e) (by decide)
theorem PR_4 {w : WD} {a : Int32} {o : OB2} (p : PR w (4, a) o) : a ∈ (wB w).map Prod.fst := by
  rcases p with ⟨e, _⟩ | ⟨e, _⟩ | ⟨e, _⟩ | ⟨_, _, p⟩ | ⟨e, _⟩
  · exact absurd (show (4 : Nat) = 1 from e) (by decide)
  · exact absurd (show (4 : Nat) = 2 from e) (by decide)
  · exact absurd (show (4 : Nat) = 3 from e) (by decide)
  · exact List.mem_map.mpr ⟨_, p, rfl⟩
  · exact absurd (show (4 : Nat) = 5 from e) (by decide)
def gcX (k : Nat) : Bool := mkF k || (tcF k || (tsF k || (sfF k || (sbF k || swF k))))
/-- what the system's collector leaves -/
def SWX (σ σ' : mS) (w : WD) (xf es : Int32 → List Int32) (g : Nat → Int32 → Bool) (fcs D : List Int32) : Prop :=
  ((∃ f, SX σ' (((wS w).map Prod.fst).filter (g 1)) f) ∧ (∃ sl, TX σ' sl) ∧ (∀ a, (a ∈ (wS w).map Prod.fst ∧ g 1 a = true) ∨ a ∈ (wX w).map Prod.fst → xst σ σ' a) ∧ (sF σ' 141).toInt = ((((wS w).map Prod.fst).filter (g 1)).map (fun x => (x_sz σ x).toInt)).sum ∧ NB σ')
  ∧ ((∃ ps hs ff fh, MX σ' ((tX w).filter (g 2)) (fun t => (es t).filter (alv σ)) ps hs ff fh) ∧ (∃ ft, FT σ' ((tX w).filter (g 2)) ft))
  ∧ ((∃ f, CX σ' (((wF w).map Prod.fst).filter (g 3)) f) ∧ (∀ x, x ∈ ((wF w).map Prod.fst).filter (g 3) → ∀ k, 0 ≤ k → k < sI σ 224 x → sI σ' 231 (sI σ' 223 x + k) = sI σ 231 (sI σ 223 x + k)) ∧ (sF σ' 232).toInt = ((((wF w).map Prod.fst).filter (g 3)).map (fun x => (sI σ 224 x).toInt)).sum)
  ∧ (∃ f, BX σ' (((wB w).map Prod.fst).filter (g 4)) f)
  ∧ (XF w (fD xf D) σ' ∧ seg (sI σ' 336) (sF σ' 337) (D ++ fcs) (-1) ∧ D.Nodup ∧ (∀ x, x ∈ D ↔ x ∈ (wC w).map Prod.fst ∧ g 5 x = false) ∧ (sF σ' 338).toInt = (wC w).length - D.length ∧ (∀ x, 0 ≤ x → sI σ' 323 x = if x ∈ D then 3 else sI σ 323 x) ∧ (∀ x, 0 ≤ x → sI σ' 324 x = if x ∈ D then 0 else sI σ 324 x) ∧ (sF σ' 358).toInt = (sF σ 358).toInt - ((D.map (fun c => (xf c).length)).sum : Int))
  ∧ MZ σ' ∧ m_fr gcX σ σ'
theorem mkd_fr {P : Nat → Bool} {σ τ : mS} {k : Nat} (fr : m_fr P σ τ) (h : P k = false) : mkd τ k = mkd σ k := by
  funext x
  simp only [mkd, mf_I fr h]
theorem x_by_f {P : Nat → Bool} {σ τ : mS} {h k : Int32} (fr : m_fr P σ τ) (h1 : P 128 = false) (h2 : P 131 = false) (h3 : P 132 = false) : x_by τ h k = x_by σ h k := by
  simp only [x_by, mf_I fr h1, mf_I fr h2, mf_I fr h3]
def q02 (k : Nat) : Bool := mkF k || tcF k
def q03 (k : Nat) : Bool := q02 k || tsF k
def q04 (k : Nat) : Bool := q03 k || sfF k
def q05 (k : Nat) : Bool := q04 k || sbF k
def q56 (k : Nat) : Bool := sbF k || swF k
def q36 (k : Nat) : Bool := sfF k || q56 k
def q26 (k : Nat) : Bool := tsF k || q36 k
theorem or_1 {a b : Bool} (h : (a || b) = false) : a = false := (Bool.or_eq_false_iff.mp h).1
theorem or_2 {a b : Bool} (h : (a || b) = false) : b = false := (Bool.or_eq_false_iff.mp h).2
theorem q02_MX (k : Nat) (h : k ∈ [128, 129, 130, 131, 132, 134] ∨ (195 ≤ k ∧ k ≤ 221)) : q02 k = false := by
  simp only [List.mem_cons, List.not_mem_nil, or_false] at h
  simp only [q02, mkF, tcF, kK, Bool.or_eq_false_iff, List.contains_cons, List.contains_nil, Bool.or_eq_false_iff, beq_eq_false_iff_ne]
  (repeat' (first | exact trivial | omega | apply And.intro))
theorem q36_MX (k : Nat) (h0 : 195 ≤ k) (h1 : k ≤ 221) : q36 k = false := by
  simp only [q36, q56, sfF, sbF, swF, Bool.or_eq_false_iff, List.contains_cons, List.contains_nil, Bool.or_eq_false_iff, beq_eq_false_iff_ne]
  (repeat' (first | exact trivial | omega | apply And.intro))
theorem q26_XF (k : Nat) (h : 323 ≤ k) (h1 : k ≤ 365) : q26 k = false := by
  simp only [q26, q36, q56, tsF, hD, hY, hW, hU, sfF, sbF, swF, Bool.or_eq_false_iff, List.contains_cons, List.contains_nil, Bool.or_eq_false_iff, beq_eq_false_iff_ne]
  (repeat' (first | exact trivial | omega | apply And.intro))
theorem q05_S (k : Nat) (h0 : 128 ≤ k) (h1 : k ≤ 141) : q05 k = false := by
  simp only [q05, q04, q03, q02, mkF, tcF, kK, tsF, hD, hY, hW, hU, sfF, sbF, Bool.or_eq_false_iff, List.contains_cons, List.contains_nil, Bool.or_eq_false_iff, beq_eq_false_iff_ne]
  (repeat' (first | exact trivial | omega | apply And.intro))
theorem q03_CX (k : Nat) (h0 : 222 ≤ k) (h1 : k ≤ 237) : q03 k = false := by
  simp only [q03, q02, mkF, tcF, kK, tsF, hD, hY, hW, hU, Bool.or_eq_false_iff, List.contains_cons, List.contains_nil, Bool.or_eq_false_iff, beq_eq_false_iff_ne]
  (repeat' (first | exact trivial | omega | apply And.intro))
theorem q56_CX (k : Nat) (h0 : 222 ≤ k) (h1 : k ≤ 232) : q56 k = false := by
  simp only [q56, sbF, swF, Bool.or_eq_false_iff, List.contains_cons, List.contains_nil, Bool.or_eq_false_iff, beq_eq_false_iff_ne]
  (repeat' (first | exact trivial | omega | apply And.intro))
theorem seg_e {a b : Int32 → Int32} {x y z : Int32} {l : List Int32} (h : seg b y l z) (e1 : a = b) (e2 : x = y) : seg a x l z := by rw [e1, e2]; exact h
