/-! LAYER 2: the two readers: words and strings; what both give -/
def fPX (k : Nat) : Bool := decide (576 ≤ k ∧ k ≤ 590) || decide (644 ≤ k ∧ k ≤ 648) || decide (707 ≤ k ∧ k ≤ 715) || [128, 129, 130, 132, 133, 134, 135].contains k
def fPM (k : Nat) : Bool := (decide (58 ≤ k ∧ k ≤ 128) || decide (130 ≤ k ∧ k ≤ 140)) || [2, 3, 4, 5, 6, 7, 8, 9].contains k
theorem px_of {P : Nat → Bool} {σ σ' : mS} (f : m_fr P σ σ') (h : ∀ k, P k = true → fPX k = true) : m_fr fPX σ σ' := mf_mono f (fun k hk => by
  cases hp : P k with
  | false => rfl
  | true => rw [h k hp] at hk; exact absurd hk (by decide))
theorem pm_of {P : Nat → Bool} {σ σ' : mS} (f : m_fr P σ σ') (h : ∀ k, P k = true → fPM k = true) : m_fr fPM σ σ' := mf_mono f (fun k hk => by
  cases hp : P k with
  | false => rfl
  | true => rw [h k hp] at hk; exact absurd hk (by decide))
theorem fin_mem {l : List Nat} {Q : Nat → Bool} (h : l.all Q = true) : ∀ k, l.contains k = true → Q k = true := fun k hk => List.all_eq_true.mp h k (List.contains_iff_mem.mp hk)
theorem px_T {σ σ' : mS} (f : m_fr fTx σ σ') : m_fr fPX σ σ' := px_of f (fin_mem rfl)
theorem px_X {σ σ' : mS} (f : m_fr fTXx σ σ') : m_fr fPX σ σ' := px_of f (fin_mem rfl)
theorem px_N {σ σ' : mS} (f : m_fr fTr σ σ') : m_fr fPX σ σ' := px_of f (fin_mem rfl)
theorem px_F {σ σ' : mS} (f : m_fr fFx σ σ') : m_fr fPX σ σ' := px_of f (fin_mem rfl)
theorem pm_T {σ σ' : mS} (f : m_fr fTm σ σ') : m_fr fPM σ σ' := pm_of f (fin_mem rfl)
theorem pm_X {σ σ' : mS} (f : m_fr fTXm σ σ') : m_fr fPM σ σ' := pm_of f (fin_mem rfl)
theorem pm_O {σ σ' : mS} (f : m_fr fOp σ σ') : m_fr fPM σ σ' := pm_of f (fin_mem rfl)
theorem pm_N {σ σ' : mS} (f : m_fr fNa σ σ') : m_fr fPM σ σ' := pm_of f (fin_mem rfl)
theorem pm_F {σ σ' : mS} (f : m_fr fFm σ σ') : m_fr fPM σ σ' := pm_of f (fin_mem rfl)
/-- the world with more texts -/
def wx (w w' : WD) : Prop := wS w' = wS w ∧ w'.2.2 = w.2.2 ∧ ∀ a, a ∈ wX w → a ∈ wX w'
theorem wx_rfl {w : WD} : wx w w := ⟨rfl, rfl, fun _ h => h⟩
theorem wx_tr {a b c : WD} (h : wx a b) (g : wx b c) : wx a c := ⟨g.1.trans h.1, g.2.1.trans h.2.1, fun x hx => g.2.2 x (h.2.2 x hx)⟩
theorem wx_X {w : WD} {a b : Int32} : wx w (wAddX w a b) := ⟨rfl, rfl, fun _ h => List.mem_cons_of_mem _ h⟩
theorem wx_m {w : WD} {a b : Int32} : (a, b) ∈ wX (wAddX w a b) := List.mem_cons_self
/-- both fail, whatever was read -/
def FLw (n : Int32) (t : Int32 → Int32) (w : WD) (k : Int) (σ μ : mS) : Prop := ∃ w', wx w w' ∧ FLr n t w' k σ μ
theorem FLw_up {n : Int32} {t : Int32 → Int32} {w w0 : WD} {k j : Int} {σ μ : mS} (h : FLw n t w k σ μ) (e : wx w0 w) (kj : k ≤ j) : FLw n t w0 j σ μ := by
  obtain ⟨w', a, b⟩ := h
  exact ⟨w', wx_tr e a, FLr_up b kj⟩
theorem FLw_1 {n : Int32} {t : Int32 → Int32} {w : WD} {k : Int} {σ μ : mS} (h : FLw n t w k σ μ) : sF σ 646 = 1 ∧ sF μ 67 = 1 := by
  obtain ⟨w', _, q, a, b, _⟩ := h
  exact ⟨a.1, b.1.1⟩
/-- after a failure one side goes on, in its own rows -/
def fGx (k : Nat) : Bool := decide (576 ≤ k ∧ k ≤ 590) || decide (k = 644)
def fGm (k : Nat) : Bool := decide (58 ≤ k ∧ k ≤ 66) || decide (69 ≤ k ∧ k ≤ 128) || decide (130 ≤ k ∧ k ≤ 140)
theorem FLw_x {P : Nat → Bool} {n : Int32} {t : Int32 → Int32} {w : WD} {k j : Int} {σ σ' μ : mS} (h : FLw n t w k σ μ) (f : m_fr P σ σ') (hP : ∀ i, fGx i = false → P i = false) (h0 : 0 ≤ tF σ' 584) (h1 : tF σ' 584 ≤ tF σ 584 + (j - k)) (kj : k ≤ j) : FLw n t w j σ' μ := by
  obtain ⟨w', a, q, ⟨b1, b2, b3, b4, b5⟩, ⟨c1, c2, c3, c4⟩, ⟨d1, d2⟩, d3, d4⟩ := h
  refine ⟨w', a, q, ⟨by rw [mf_F f (hP 646 rfl)]; exact b1, by rw [mf_F f (hP 647 rfl)]; exact b2, by rw [mf_F f (hP 648 rfl)]; exact b3, h0, by omega⟩, ⟨c1, c2, ⟨c3.1, by omega⟩, c4⟩, ⟨RS_fr d1 f (Q := fun _ => false) mf_rfl (fun k k0 k1 => hP k ?_) (fun _ _ _ _ => rfl), d2⟩, TE_fr d3 f (Q := fun _ => false) mf_rfl (hP 706 rfl) (hP 705 rfl) (hP 12 rfl) rfl rfl, d4⟩
  simp only [fGx, Bool.or_eq_false_iff, decide_eq_false_iff_not]
  omega
theorem FLw_m {P : Nat → Bool} {n : Int32} {t : Int32 → Int32} {w : WD} {k j : Int} {σ μ μ' : mS} (h : FLw n t w k σ μ) (f : m_fr P μ μ') (hP : ∀ i, fGm i = false → P i = false) (hn : NXm n t μ → NXm n t μ') (h0 : 0 ≤ tF μ' 75) (h1 : tF μ' 75 ≤ tF μ 75 + (j - k)) (kj : k ≤ j) (h8 : tF μ' 85 = tF μ 85) : FLw n t w j σ μ' := by
  obtain ⟨w', a, q, ⟨b1, b2, b3, b4, b5⟩, ⟨c1, c2, c3, c4⟩, ⟨d1, d2⟩, d3, d4⟩ := h
  have s : ∀ i, i ≤ 15 → P i = false := fun i hi => hP i (by simp only [fGm, Bool.or_eq_false_iff, decide_eq_false_iff_not]; omega)
  refine ⟨w', a, q, ⟨b1, b2, b3, b4, by omega⟩, ⟨⟨by rw [mf_F f (hP 67 rfl)]; exact c1.1, by rw [mf_F f (hP 68 rfl)]; exact c1.2⟩, hn c2, ⟨h0, by omega⟩, by rw [h8]; exact c4⟩, ⟨RS_fr d1 (P := fun _ => false) mf_rfl f (fun _ _ _ => rfl) (fun k k0 k1 _ => s k k0), TMU_fr d2 f (s 2 (by omega)) (s 3 (by omega)) (s 5 (by omega)) (s 7 (by omega)) (s 10 (by omega))⟩, TE_fr d3 (P := fun _ => false) mf_rfl f rfl rfl rfl (s 1 (by omega)) (s 0 (by omega)), d4⟩
theorem NXm_fr {P : Nat → Bool} {n : Int32} {t : Int32 → Int32} {μ μ' : mS} (h : NXm n t μ) (f : m_fr P μ μ') (hP : ∀ k, (58 ≤ k ∧ k ≤ 66) ∨ k ≤ 15 → P k = false) : NXm n t μ' := by
  obtain ⟨a, e, b, c, d⟩ := h
  refine ⟨TXm_fr a f (hP 1 (by omega)) (hP 0 (by omega)), e, b, ?_, ?_⟩
  · rw [mf_F f (hP 62 (by omega))]; exact c
  · rw [mf_F f (hP 58 (by omega)), mf_F f (hP 59 (by omega))]; exact d
/-- the reference's act after a failure -/
theorem FLw_Op {n : Int32} {t : Int32 → Int32} {w : WD} {k j : Int} {σ μ : mS} {x : Option mS} (h : FLw n t w k σ μ) (q : OPo j μ x) (j0 : 0 ≤ j) : ∃ μ', x = some μ' ∧ m_fr fOp μ μ' ∧ FLw n t w (k + j) σ μ' := by
  obtain ⟨μ', e, f, e1, e2⟩ := q
  have r0 : 0 ≤ tF μ 75 := by
    obtain ⟨_, _, _, _, ⟨_, _, c3, _⟩, _⟩ := h
    exact c3.1
  refine ⟨μ', e, f, FLw_m h f (fun i hi => ?_) (fun z => NXm_fr z f (fun k hk => ?_)) (by omega) (by omega) (by omega) (by unfold tF; rw [mf_F f rfl])⟩
  · cases hf : fOp i with
    | false => rfl
    | true =>
      have := fin_mem (Q := fGm) (l := [70, 71, 72, 73, 74, 75, 86, 125, 126, 127, 128]) rfl i hf
      rw [this] at hi
      exact absurd hi (by decide)
  · simp only [fOp, List.contains_cons, List.contains_nil, Bool.or_eq_false_iff, beq_eq_false_iff_ne]
    (repeat' (first | exact trivial | omega | apply And.intro))
theorem FLw_RO {n : Int32} {t : Int32 → Int32} {w : WD} {k : Int} {σ μ : mS} (h : FLw n t w k σ μ) (hk : k ≤ 7000) : RO 900 μ := by
  obtain ⟨_, _, _, _, ⟨_, _, c3, c4⟩, _⟩ := h
  exact ⟨⟨c3.1, by omega⟩, c4⟩
theorem FLw_N {n : Int32} {t : Int32 → Int32} {w : WD} {k : Int} {σ μ : mS} (h : FLw n t w k σ μ) (hk : k ≤ 3900) : inB (sF σ 584) 13000 = true := by
  obtain ⟨_, _, _, ⟨_, _, _, b4, b5⟩, _⟩ := h
  exact tI_in b4 (by unfold tF at b5; omega)
/-- the reference goes to the next token after a failure -/
theorem FLw_nx {N : Nat} (hN : BIG ≤ N) {n : Int32} {t : Int32 → Int32} {w : WD} {k : Int} {σ μ : mS} (h : FLw n t w k σ μ) : ∃ μ', mm_next N μ = some μ' ∧ m_fr fTm μ μ' ∧ FLw n t w k σ μ' := by
  have h' := h
  obtain ⟨w', a, q, b, ⟨c1, ⟨c2, e, e1, e2, e3⟩, c3, c4⟩, d1, d3, d4⟩ := h
  have tp : TkP n t e (md_pi (md_pi (md_pi σ 713 e) 714 0) 715 1) μ := ⟨TE_fr d3 (P := fTx) (Q := fun _ => false) (mf_pi (mf_pi (mf_pi mf_rfl rfl) rfl) rfl) mf_rfl rfl rfl rfl rfl rfl, e1, ⟨rfl, e2⟩, ⟨Int32.le_refl _, e1.1, (show (1 : Int32) = LN t 0 from rfl)⟩, e3⟩
  obtain ⟨σ', μ', p', e4, e5, e6, e7, _, f, g⟩ := nxt_2 hN tp
  refine ⟨μ', e5, g, FLw_m h' g (fun i hi => ?_) (fun _ => NXm_of (TkH_TkP e7)) (by unfold tF; rw [mf_F g rfl]; exact c3.1) (by unfold tF; rw [mf_F g rfl]; omega) (Int.le_refl _) (by unfold tF; rw [mf_F g rfl])⟩
  cases hf : fTm i with
  | false => rfl
  | true =>
    have := fin_mem (Q := fGm) (l := [58, 59, 60, 61, 62, 63, 64, 65, 66]) rfl i hf
    rw [this] at hi
    exact absurd hi (by decide)
