/-! LAYER 2: the two readers: the token at hand -/
def KR (k : Int32) : Prop := (k = 0 ∨ k = 1 ∨ k = 2 ∨ k = 3 ∨ k = 4) ∨ (10 ≤ k ∧ k ≤ 42 ∧ k ≠ 28 ∧ k ≠ 29) ∨ (50 ≤ k ∧ k ≤ 71)
theorem TkH_KR {n p e : Int32} {t : Int32 → Int32} {σ μ : mS} (h : TkH n t p e σ μ) : KR (sF σ 707) ∧ sF μ 60 = kmp (sF σ 707) := by
  obtain ⟨_, _, _, _, _, _, k, kd, k3⟩ := h
  refine ⟨?_, k⟩
  rcases kd with q | ⟨_, q | q | q | q | q⟩
  · exact .inl (.inl q.1)
  · exact .inl (.inr (.inl q))
  · exact .inr (.inl ⟨q.1, q.2, k3.2.2⟩)
  · exact .inl (.inr (.inr (.inr (.inl q.1))))
  · exact .inl (.inr (.inr (.inr (.inr q.1))))
  · rcases q.1 with q | q
    · exact .inl (.inr (.inr (.inl q)))
    · exact .inr (.inr q)
/-- kinds of the reference, told by the system's -/
def kin (l : Int32) : Int32 := if 10 ≤ l ∧ l ≤ 31 then l + 40 else ((sgl.map (fun x => (x.2, x.1))).lookup l).getD l
def KRb (a : Nat) : Bool := a ≤ 4 || (10 ≤ a && a ≤ 42 && a != 28 && a != 29) || (50 ≤ a && a ≤ 71)
theorem kin_all : (List.range 72).all (fun a => !KRb a || kin (kmp (Int32.ofNat a)) == Int32.ofNat a) = true := by decide +kernel
theorem KR_n {k : Int32} (h : KR k) : ∃ a, a < 72 ∧ KRb a = true ∧ k = Int32.ofNat a := by
  have e : 0 ≤ k ∧ k ≤ 71 := by
    rcases h with (h | h | h | h | h) | h | h
    · rw [h]; decide
    · rw [h]; decide
    · rw [h]; decide
    · rw [h]; decide
    · rw [h]; decide
    · exact ⟨Int32.le_trans (by decide) h.1, Int32.le_trans h.2.1 (by decide)⟩
    · exact ⟨Int32.le_trans (by decide) h.1, h.2⟩
  have q := tI_le.mp e.2
  rw [show (71 : Int32).toInt = 71 from rfl] at q
  have ek : k = Int32.ofNat k.toNatClampNeg := (oN_cl' e.1).symm
  have a72 : k.toNatClampNeg < 72 := by rw [tI_cl]; omega
  generalize k.toNatClampNeg = a at ek a72
  refine ⟨a, a72, ?_, ek⟩
  subst ek
  have u : ∀ x y : Nat, x < 2147483648 → y < 2147483648 → (Int32.ofNat x ≤ Int32.ofNat y ↔ x ≤ y) := fun x y hx hy => oN_le hx hy
  have v : ∀ y : Nat, y < 72 → (Int32.ofNat a = Int32.ofNat y ↔ a = y) := fun y hy => oN_eq (by omega) (by omega)
  simp only [KRb, Bool.or_eq_true, Bool.and_eq_true, decide_eq_true_eq, bne_iff_ne, ne_eq]
  rcases h with (h | h | h | h | h) | ⟨h1, h2, h3, h4⟩ | ⟨h1, h2⟩
  · have := (v 0 (by omega)).mp h; omega
  · have := (v 1 (by omega)).mp h; omega
  · have := (v 2 (by omega)).mp h; omega
  · have := (v 3 (by omega)).mp h; omega
  · have := (v 4 (by omega)).mp h; omega
  · have g1 := (u 10 a (by omega) (by omega)).mp h1
    have g2 := (u a 42 (by omega) (by omega)).mp h2
    have g3 : ¬ a = 28 := fun q => h3 ((v 28 (by omega)).mpr q)
    have g4 : ¬ a = 29 := fun q => h4 ((v 29 (by omega)).mpr q)
    omega
  · have g1 := (u 50 a (by omega) (by omega)).mp h1
    have g2 := (u a 71 (by omega) (by omega)).mp h2
    omega
theorem kin_k {k : Int32} (h : KR k) : kin (kmp k) = k := by
  obtain ⟨a, a1, a2, e⟩ := KR_n h
  have q := List.all_eq_true.mp kin_all a (List.mem_range.mpr a1)
  rw [a2] at q
  rw [e]
  simpa using q
def TKr (σ μ : mS) : Prop := KR (sF σ 707) ∧ sF μ 60 = kmp (sF σ 707)
theorem tk_y {σ μ : mS} {k l : Int32} (h : TKr σ μ) (c : sF σ 707 = k) (e : kmp k = l) : sF μ 60 = l := by rw [h.2, c, e]
theorem tk_n {σ μ : mS} {k l : Int32} (h : TKr σ μ) (c : ¬ sF σ 707 = k) (e : kin l = k) : ¬ sF μ 60 = l := fun q => c (by rw [← kin_k h.1, ← h.2, q, e])
/-- what is open -/
def OPN (o : Nat) (σ μ : mS) : Prop := sF σ 644 = Int32.ofNat (40 - o) ∧ sF μ 69 = Int32.ofNat (40 - o) ∧ o ≤ 40
theorem opn_0 {o : Nat} (h : o ≤ 40) : Int32.ofNat (40 - o) = 40 ↔ o = 0 := by
  have := oN_eq (a := 40 - o) (b := 40) (by omega) (by omega)
  exact ⟨fun q => by have := this.mp q; omega, fun q => by rw [q]; rfl⟩
theorem opn_s {o : Nat} (h : o + 1 ≤ 40) : Int32.ofNat (40 - (o + 1)) + 1 = Int32.ofNat (40 - o) := by
  rw [oN_s, show 40 - (o + 1) + 1 = 40 - o from by omega]
theorem opn_p {o : Nat} (h : o + 1 ≤ 40) : Int32.ofNat (40 - o) - 1 = Int32.ofNat (40 - (o + 1)) := by
  rw [← opn_s h, Int32.add_sub_cancel]
/-- room of the system's tree and texts -/
def BXr (A : Nat → Int) (b : Int) (σ : mS) : Prop := (0 ≤ tF σ 584 ∧ 3 * tF σ 584 ≤ b) ∧ (0 ≤ tF σ 590 ∧ 40 * tF σ 590 ≤ b) ∧ 5 * (tF σ 134 - A 134) ≤ b ∧ tF σ 133 - A 133 ≤ b
theorem BXr_up {A : Nat → Int} {b b' : Int} {σ : mS} (h : BXr A b σ) (hb : b ≤ b') : BXr A b' σ := by
  obtain ⟨h1, h2, h3, h4⟩ := h
  exact ⟨⟨h1.1, by omega⟩, ⟨h2.1, by omega⟩, by omega, by omega⟩
theorem BXr_fr {P : Nat → Bool} {A : Nat → Int} {b : Int} {σ σ' : mS} (h : BXr A b σ) (f : m_fr P σ σ') (h1 : P 584 = false) (h2 : P 590 = false) (h3 : P 134 = false) (h4 : P 133 = false) : BXr A b σ' := by
  unfold BXr tF at h ⊢
  rw [mf_F f h1, mf_F f h2, mf_F f h3, mf_F f h4]
  exact h
/-- functions have the same numbers, and the one at hand is the same -/
def FNR (A : Nat → Int) (σ μ : mS) : Prop := tF μ 82 = A 82 + tF σ 590 ∧ (sI μ 87 (sF μ 85)).toInt = A 82 + tF σ 645 ∧ 0 ≤ tF σ 645 ∧ tF σ 645 < tF σ 590
theorem FNR_fr {P Q : Nat → Bool} {A : Nat → Int} {σ μ σ' μ' : mS} (h : FNR A σ μ) (f : m_fr P σ σ') (g : m_fr Q μ μ') (h1 : P 590 = false) (h2 : P 645 = false) (h3 : Q 82 = false) (h4 : Q 85 = false) (h5 : Q 87 = false) : FNR A σ' μ' := by
  unfold FNR tF at h ⊢
  rw [mf_F f h1, mf_F f h2, mf_F g h3, mf_F g h4, mf_I g h5]
  exact h
/-- both readers, alike, at the token at p -/
def PS (n : Int32) (t : Int32 → Int32) (A : Nat → Int) (w : WD) (p e : Int32) (o : Nat) (c : Int) (σ μ : mS) : Prop := TkH n t p e σ μ ∧ (sF σ 646 = 0 ∧ sF μ 67 = 0) ∧ OPN o σ μ ∧ (RS w σ μ ∧ TMU μ ∧ FNR A σ μ) ∧ BXr A (20 * p.toInt + c) σ ∧ MI A n.toInt (20 * p.toInt + c) o μ ∧ 20 * p.toInt + c ≤ 20 * e.toInt + 700
theorem PS_tk {n p e : Int32} {t : Int32 → Int32} {A : Nat → Int} {w : WD} {o : Nat} {c : Int} {σ μ : mS} (h : PS n t A w p e o c σ μ) : TKr σ μ := TkH_KR h.1
theorem PS_pn {n p e : Int32} {t : Int32 → Int32} {A : Nat → Int} {w : WD} {o : Nat} {c : Int} {σ μ : mS} (h : PS n t A w p e o c σ μ) : 0 ≤ p.toInt ∧ p.toInt ≤ e.toInt ∧ e.toInt ≤ n.toInt ∧ n.toInt ≤ 1280 := by
  obtain ⟨⟨_, ⟨a, b, c⟩, _⟩, _, _, _, _, m, _⟩ := h
  have d := m.2.1.2.2.2.2.2.2.2
  have a' := tI_le.mp a
  exact ⟨a', tI_le.mp b, tI_le.mp c, d.2⟩
theorem PS_up {n p e : Int32} {t : Int32 → Int32} {A : Nat → Int} {w : WD} {o : Nat} {c c' : Int} {σ μ : mS} (h : PS n t A w p e o c σ μ) (hc : c ≤ c') (hn : c' ≤ 700) : PS n t A w p e o c' σ μ := by
  have q := PS_pn h
  obtain ⟨h1, h2, h3, h4, h5, h6, h7⟩ := h
  exact ⟨h1, h2, h3, h4, BXr_up h5 (by omega), MI_up h6 (by omega) (by omega), by omega⟩
/-- what tree and tokens do not touch -/
theorem TkH_fr {P Q : Nat → Bool} {n p e : Int32} {t : Int32 → Int32} {σ μ σ' μ' : mS} (h : TkH n t p e σ μ) (f : m_fr P σ σ') (g : m_fr Q μ μ') (hP : ∀ k, 705 ≤ k → k ≤ 715 → P k = false) (h12 : P 12 = false) (hQ : ∀ k, 58 ≤ k → k ≤ 66 → Q k = false) (q0 : Q 0 = false) (q1 : Q 1 = false) : TkH n t p e σ' μ' := by
  obtain ⟨E, a, ⟨b1, b2, b3⟩, ⟨c1, c2, c3⟩, ⟨d1, d2⟩, ⟨e1, e2⟩, k, kd, k3⟩ := h
  have x : ∀ j, 705 ≤ j → j ≤ 715 → sF σ' j = sF σ j := fun j j0 j1 => mf_F f (hP j j0 j1)
  have y : ∀ j, 58 ≤ j → j ≤ 66 → sF μ' j = sF μ j := fun j j0 j1 => mf_F g (hQ j j0 j1)
  refine ⟨TE_fr E f g (hP 706 (by omega) (by omega)) (hP 705 (by omega) (by omega)) h12 q1 q0, a, ?_, ?_, ?_, ?_, ?_, ?_, ?_⟩
  · rw [x 708 (by omega) (by omega), y 58 (by omega) (by omega), y 61 (by omega) (by omega)]; exact ⟨b1, b2, b3⟩
  · rw [x 709 (by omega) (by omega), y 59 (by omega) (by omega), y 63 (by omega) (by omega)]; exact ⟨c1, c2, c3⟩
  · rw [x 714 (by omega) (by omega), x 715 (by omega) (by omega)]; exact ⟨d1, d2⟩
  · rw [x 713 (by omega) (by omega), y 62 (by omega) (by omega)]; exact ⟨e1, e2⟩
  · rw [x 707 (by omega) (by omega), y 60 (by omega) (by omega)]; exact k
  · unfold KD SBy at kd ⊢
    rw [x 707 (by omega) (by omega), x 712 (by omega) (by omega), mf_G f (hP 710 (by omega) (by omega)), mf_G g (hQ 64 (by omega) (by omega)), y 66 (by omega) (by omega)]
    have i : ∀ j, sI σ' 711 j = sI σ 711 j := fun j => mf_I f (hP 711 (by omega) (by omega))
    have i2 : ∀ j, sI μ' 65 j = sI μ 65 j := fun j => mf_I g (hQ 65 (by omega) (by omega))
    have i3 : ∀ j, sI σ' 12 j = sI σ 12 j := fun j => mf_I f h12
    simp only [i, i2, i3]
    exact kd
  · rw [x 707 (by omega) (by omega)]; exact k3
theorem TMU_fr {P : Nat → Bool} {μ μ' : mS} (h : TMU μ) (f : m_fr P μ μ') (h2 : P 2 = false) (h3 : P 3 = false) (h5 : P 5 = false) (h7 : P 7 = false) (h10 : P 10 = false) : TMU μ' := by
  intro x y x0 x1 y0 y1 m
  have i : ∀ k, P k = false → ∀ j, sI μ' k j = sI μ k j := fun k hk j => mf_I f hk
  rw [mf_F f h5] at x1 y1
  refine h x y x0 x1 y0 y1 ?_
  unfold m_eq m_sz m_by at m ⊢
  simp only [i 2 h2, i 3 h3, i 7 h7, i 10 h10] at m
  exact m
theorem sl_T {μ μ' : mS} (h : m_fr fTm μ μ') : m_fr slP μ μ' := mf_mono h (fun k hk => by
  simp only [fTm, slP, List.contains_cons, List.contains_nil, Bool.or_eq_false_iff, beq_eq_false_iff_ne] at hk ⊢
  (repeat' (first | exact trivial | omega | apply And.intro)))
theorem sl_TX {μ μ' : mS} (h : m_fr fTXm μ μ') : m_fr slP μ μ' := mf_mono h (fun k hk => by
  simp only [fTXm, slP, List.contains_cons, List.contains_nil, Bool.or_eq_false_iff, beq_eq_false_iff_ne] at hk ⊢
  (repeat' (first | exact trivial | omega | apply And.intro)))
/-- the next token, both not failed -/
theorem nxp {N : Nat} (hN : BIG ≤ N) {n p e : Int32} {t : Int32 → Int32} {A : Nat → Int} {w : WD} {o : Nat} {c : Int} {σ μ : mS} (h : PS n t A w p e o c σ μ) (k0 : ¬ sF σ 707 = 0) {c' : Int} (hc : 20 * p.toInt + c ≤ 20 * e.toInt + c' ∨ c ≤ 20 + c') (hc' : c' ≤ 700) : ∃ σ' μ' p' e', xx11_next N σ = some σ' ∧ mm_next N μ = some μ' ∧ PS n t A w p' e' o c' σ' μ' ∧ p.toInt + 1 ≤ p'.toInt ∧ e.toInt ≤ p'.toInt ∧ (mm_endsTable N μ = some (b01 (decide (sF σ' 707 = 34)), μ) ∧ mm_isBeforeRest N μ = some (b01 (decide (sF σ' 707 = 42)), μ)) ∧ m_fr fTx σ σ' ∧ m_fr fTm μ μ' := by
  have q := PS_pn h
  obtain ⟨h1, h2, ⟨o1, o2, o3⟩, ⟨h4, h4', h4n⟩, h5, h6, h7⟩ := h
  obtain ⟨σ', μ', p', e1, e2, e3, e4, e5, f, g⟩ := nxt_2 hN (TkH_TkP h1)
  have pe : p.toInt + 1 ≤ e.toInt := by
    obtain ⟨_, _, _, _, _, _, _, kd, _⟩ := h1
    rcases kd with q | q
    · exact absurd q.1 k0
    · have := tI_lt.mp q.1; omega
  have e3' := tI_le.mp e3
  have q2 := tI_le.mp e4.2.1.2.1
  have q' : p'.toInt ≤ n.toInt := tI_le.mp (Int32.le_trans e4.2.1.2.1 e4.2.1.2.2)
  refine ⟨σ', μ', p', _, e1, e2, ⟨e4, ⟨by rw [mf_F f rfl]; exact h2.1, by rw [mf_F g rfl]; exact h2.2⟩, ⟨by rw [mf_F f rfl]; exact o1, by rw [mf_F g rfl]; exact o2, o3⟩, ⟨RS_fr h4 f g (fun k k0 k1 => ?_) (fun k k0 k1 _ => ?_), ?_, FNR_fr h4n f g rfl rfl rfl rfl rfl⟩, BXr_up (BXr_fr h5 f rfl rfl rfl rfl) (by omega), MI_fr h6 g MIp_T (by omega) (by omega) (by unfold tF; rw [mf_F g rfl]; exact Int.le_refl _) (by unfold tF; rw [mf_F g rfl]; omega), by omega⟩, by omega, by omega, e5, f, g⟩
  · simp only [fTx, List.contains_cons, List.contains_nil, Bool.or_eq_false_iff, beq_eq_false_iff_ne]
    (repeat' (first | exact trivial | omega | apply And.intro))
  · simp only [fTm, List.contains_cons, List.contains_nil, Bool.or_eq_false_iff, beq_eq_false_iff_ne]
    (repeat' (first | exact trivial | omega | apply And.intro))
  · exact TMU_fr h4' g rfl rfl rfl rfl rfl
theorem PS_fr {P Q : Nat → Bool} {n p e : Int32} {t : Int32 → Int32} {A : Nat → Int} {w : WD} {o : Nat} {c c' : Int} {σ μ σ' μ' : mS} (h : PS n t A w p e o c σ μ) (f : m_fr P σ σ') (g : m_fr Q μ μ') (hP : ∀ k, (705 ≤ k ∧ k ≤ 715) ∨ k = 12 ∨ (128 ≤ k ∧ k ≤ 142) ∨ k = 644 ∨ k = 646 ∨ k = 590 ∨ k = 645 → P k = false) (hQ : ∀ k, (58 ≤ k ∧ k ≤ 66) ∨ k ≤ 15 ∨ k = 67 ∨ k = 69 ∨ k = 82 ∨ k = 85 ∨ k = 87 → Q k = false) (hc : 20 * p.toInt + c' ≤ 20 * e.toInt + 700) (hb : BXr A (20 * p.toInt + c') σ') (hm : MI A n.toInt (20 * p.toInt + c') o μ') : PS n t A w p e o c' σ' μ' := by
  obtain ⟨h1, h2, ⟨o1, o2, o3⟩, ⟨h4, h4', h4n⟩, h5, h6, h7⟩ := h
  refine ⟨TkH_fr h1 f g (fun k k0 k1 => hP k (.inl ⟨k0, k1⟩)) (hP 12 (by omega)) (fun k k0 k1 => hQ k (.inl ⟨k0, k1⟩)) (hQ 0 (by omega)) (hQ 1 (by omega)), ⟨by rw [mf_F f (hP 646 (by omega))]; exact h2.1, by rw [mf_F g (hQ 67 (by omega))]; exact h2.2⟩, ⟨by rw [mf_F f (hP 644 (by omega))]; exact o1, by rw [mf_F g (hQ 69 (by omega))]; exact o2, o3⟩, ⟨RS_fr h4 f g (fun k k0 k1 => hP k (by omega)) (fun k k0 k1 _ => hQ k (by omega)), TMU_fr h4' g (hQ 2 (by omega)) (hQ 3 (by omega)) (hQ 5 (by omega)) (hQ 7 (by omega)) (hQ 10 (by omega)), FNR_fr h4n f g (hP 590 (by omega)) (hP 645 (by omega)) (hQ 82 (by omega)) (hQ 85 (by omega)) (hQ 87 (by omega))⟩, hb, hm, hc⟩
/-- the reference alone goes on -/
theorem PS_m {Q : Nat → Bool} {n p e : Int32} {t : Int32 → Int32} {A : Nat → Int} {w : WD} {o : Nat} {c c' : Int} {σ μ μ' : mS} (h : PS n t A w p e o c σ μ) (g : m_fr Q μ μ') (hQ : ∀ k, (58 ≤ k ∧ k ≤ 66) ∨ k ≤ 15 ∨ k = 67 ∨ k = 69 ∨ k = 82 ∨ k = 85 ∨ k = 87 → Q k = false) (hcc : c ≤ c') (hc : 20 * p.toInt + c' ≤ 20 * e.toInt + 700) (hm : MI A n.toInt (20 * p.toInt + c') o μ') : PS n t A w p e o c' σ μ' := PS_fr h (P := fun _ => false) mf_rfl g (fun _ _ => rfl) hQ hc (BXr_up h.2.2.2.2.1 (by omega)) hm
theorem Op_Q : ∀ k, (58 ≤ k ∧ k ≤ 66) ∨ k ≤ 15 ∨ k = 67 ∨ k = 69 ∨ k = 82 ∨ k = 85 ∨ k = 87 → fOp k = false := fun k hk => by
  simp only [fOp, List.contains_cons, List.contains_nil, Bool.or_eq_false_iff, beq_eq_false_iff_ne]
  (repeat' (first | exact trivial | omega | apply And.intro))
theorem Na_Q : ∀ k, (58 ≤ k ∧ k ≤ 66) ∨ k ≤ 15 ∨ k = 67 ∨ k = 69 ∨ k = 82 ∨ k = 85 ∨ k = 87 → fNa k = false := fun k hk => by
  simp only [fNa, List.contains_cons, List.contains_nil, Bool.or_eq_false_iff, beq_eq_false_iff_ne]
  (repeat' (first | exact trivial | omega | apply And.intro))
/-- an act of the reference, with the system standing -/
theorem PS_Op {n p e : Int32} {t : Int32 → Int32} {A : Nat → Int} {w : WD} {o : Nat} {c k : Int} {σ μ : mS} {x : Option mS} (h : PS n t A w p e o c σ μ) (q : OPo k μ x) (k0 : 0 ≤ k) (hc : 20 * p.toInt + (c + k) ≤ 20 * e.toInt + 700) : ∃ μ', x = some μ' ∧ m_fr fOp μ μ' ∧ PS n t A w p e o (c + k) σ μ' := by
  have pn := PS_pn h
  obtain ⟨μ', e1, f, m⟩ := MI_Op h.2.2.2.2.2.1 q k0 (by omega)
  exact ⟨μ', e1, f, PS_m h f Op_Q (by omega) hc (by rw [show 20 * p.toInt + (c + k) = 20 * p.toInt + c + k from by omega]; exact m)⟩
theorem PS_RO {n p e : Int32} {t : Int32 → Int32} {A : Nat → Int} {w : WD} {o : Nat} {c : Int} {σ μ : mS} (h : PS n t A w p e o c σ μ) (k : Int) (hk : k ≤ 5000) : RO k μ := RO_fr (MI_RO h.2.2.2.2.2.1) mf_rfl (Int.le_refl _) k (by omega)
/-- both have failed, at q -/
def NXm (n : Int32) (t : Int32 → Int32) (μ : mS) : Prop := TXm n t μ ∧ ∃ e, (0 ≤ e ∧ e ≤ n) ∧ sF μ 62 = e ∧ (0 ≤ sF μ 58 ∧ sF μ 58 ≤ e ∧ sF μ 59 = LN t (sF μ 58))
def FLx (t : Int32 → Int32) (k : Int) (q : Int32) (σ : mS) : Prop := sF σ 646 = 1 ∧ sF σ 647 = q ∧ sF σ 648 = LN t q ∧ 0 ≤ tF σ 584 ∧ tF σ 584 ≤ 9000 + k
def FLm (n : Int32) (t : Int32 → Int32) (k : Int) (q : Int32) (μ : mS) : Prop := (sF μ 67 = 1 ∧ sF μ 68 = q) ∧ NXm n t μ ∧ (0 ≤ tF μ 75 ∧ tF μ 75 ≤ 152000 + k) ∧ 0 ≤ tF μ 85 ∧ tF μ 85 ≤ 46
def FLr (n : Int32) (t : Int32 → Int32) (w : WD) (k : Int) (σ μ : mS) : Prop := ∃ q, FLx t k q σ ∧ FLm n t k q μ ∧ (RS w σ μ ∧ TMU μ) ∧ TE n t σ μ ∧ 0 ≤ q
theorem FLr_up {n : Int32} {t : Int32 → Int32} {w : WD} {k j : Int} {σ μ : mS} (h : FLr n t w k σ μ) (kj : k ≤ j) : FLr n t w j σ μ := by
  obtain ⟨q, ⟨a1, a2, a3, a4, a5⟩, ⟨b1, b2, b3, b4⟩, c⟩ := h
  exact ⟨q, ⟨a1, a2, a3, a4, by omega⟩, ⟨b1, b2, ⟨b3.1, by omega⟩, b4⟩, c⟩
theorem NXm_of {n e : Int32} {t : Int32 → Int32} {σ μ : mS} (h : TkP n t e σ μ) : NXm n t μ := ⟨h.1.2.2.1, e, h.2.1, h.2.2.1.2, h.2.2.2.2⟩
theorem fail_x {N : Nat} {σ : mS} (h : sF σ 646 = 0) : xx10_fail N σ = some (md_pi (md_pi (md_pi σ 646 1) 647 (sF σ 708)) 648 (sF σ 709)) := by
  rw [xx10_fail, xx10_fail_2]
  simp only [sF_fold]
  rw [h, if_pos rfl]
  rfl
theorem fail_xf {N : Nat} {σ : mS} (h : sF σ 646 = 1) : xx10_fail N σ = some σ := by
  rw [xx10_fail, xx10_fail_2]
  simp only [sF_fold]
  rw [h, if_neg (by decide)]
  rfl
theorem fail_m {N : Nat} {μ : mS} (h : sF μ 67 = 0) : mm_fail N μ = some (md_pi (md_pi μ 67 1) 68 (sF μ 61)) := by
  rw [mm_fail]
  simp only [sF_fold]
  rw [h, if_pos rfl]
  rfl
theorem fail_mf {N : Nat} {μ : mS} (h : sF μ 67 = 1) : mm_fail N μ = some μ := by
  rw [mm_fail]
  simp only [sF_fold]
  rw [h, if_neg (by decide)]
  rfl
def fFx (k : Nat) : Bool := [646, 647, 648].contains k
def fFm (k : Nat) : Bool := [67, 68].contains k
/-- both fail, at the token at hand -/
theorem fail_2 {n p e : Int32} {t : Int32 → Int32} {A : Nat → Int} {w : WD} {o : Nat} {c : Int} {σ μ : mS} (h : PS n t A w p e o c σ μ) : FLr n t w 0 (md_pi (md_pi (md_pi σ 646 1) 647 (sF σ 708)) 648 (sF σ 709)) (md_pi (md_pi μ 67 1) 68 (sF μ 61)) := by
  have pn := PS_pn h
  have f : m_fr fFx σ (md_pi (md_pi (md_pi σ 646 1) 647 (sF σ 708)) 648 (sF σ 709)) := mf_pi (mf_pi (mf_pi mf_rfl rfl) rfl) rfl
  have g : m_fr fFm μ (md_pi (md_pi μ 67 1) 68 (sF μ 61)) := mf_pi (mf_pi mf_rfl rfl) rfl
  obtain ⟨h1, h2, h3, ⟨h4, h4', _⟩, h5, h6, h7⟩ := h
  have tp := TkH_TkP h1
  obtain ⟨E, a, ⟨b1, b2, b3⟩, ⟨c1, c2, c3⟩, _⟩ := h1
  have hA := h6.2.1
  have hB := h6.2.2.1
  have hL := h6.2.2.2.2.1
  refine ⟨p, ⟨rfl, b1, c1, h5.1.1, ?_⟩, ⟨⟨rfl, b3⟩, ⟨TXm_fr E.2.2.1 g rfl rfl, e, tp.2.1, ?_⟩, ⟨?_, ?_⟩, hL.1, ?_⟩, ⟨RS_fr h4 f g (fun k k0 k1 => ?_) (fun k k0 k1 _ => ?_), TMU_fr h4' g rfl rfl rfl rfl rfl⟩, TE_fr E f g rfl rfl rfl rfl rfl, a.1⟩
  · have := h5.1.2
    show tF σ 584 ≤ _
    omega
  · rw [mf_F g rfl, mf_F g rfl, mf_F g rfl]
    exact ⟨tp.2.2.1.2, tp.2.2.2.2⟩
  · show 0 ≤ tF μ 75
    have := hB.1.1
    have := hA.1.1
    omega
  · show tF μ 75 ≤ _
    have := hB.1.2
    have := hA.1
    omega
  · show tF μ 85 ≤ _
    omega
  · simp only [fFx, List.contains_cons, List.contains_nil, Bool.or_eq_false_iff, beq_eq_false_iff_ne]
    (repeat' (first | exact trivial | omega | apply And.intro))
  · simp only [fFm, List.contains_cons, List.contains_nil, Bool.or_eq_false_iff, beq_eq_false_iff_ne]
    (repeat' (first | exact trivial | omega | apply And.intro))
/-- the system's small steps -/
theorem is_y {N : Nat} {σ : mS} {k : Int32} (h : sF σ 646 = 0) (c : sF σ 707 = k) : xx10_is N σ k = some (1, σ) := by
  rw [xx10_is]
  simp only [sF_fold]
  rw [h, c, if_pos rfl, if_pos rfl]
  rfl
theorem is_n {N : Nat} {σ : mS} {k : Int32} (h : sF σ 646 = 0) (c : ¬ sF σ 707 = k) : xx10_is N σ k = some (0, σ) := by
  rw [xx10_is]
  simp only [sF_fold]
  rw [h, if_pos rfl, if_neg c]
  rfl
theorem is_f {N : Nat} {σ : mS} {k : Int32} (h : sF σ 646 = 1) : xx10_is N σ k = some (0, σ) := by
  rw [xx10_is]
  simp only [sF_fold]
  rw [h, if_neg (by decide)]
  rfl
theorem take_y {N : Nat} {σ σ' : mS} {k : Int32} (h : sF σ 646 = 0) (c : sF σ 707 = k) (e : xx11_next N σ = some σ') : xx10_take N σ k = some (1, σ') := by
  rw [xx10_take, is_y h c]
  simp only [bd]
  rw [if_neg (by decide), e]
  rfl
theorem take_n {N : Nat} {σ : mS} {k : Int32} (h : sF σ 646 = 0) (c : ¬ sF σ 707 = k) : xx10_take N σ k = some (0, σ) := by
  rw [xx10_take, is_n h c]
  rfl
theorem take_f {N : Nat} {σ : mS} {k : Int32} (h : sF σ 646 = 1) : xx10_take N σ k = some (0, σ) := by
  rw [xx10_take, is_f h]
  rfl
theorem need_y {N : Nat} {σ σ' : mS} {k : Int32} (h : sF σ 646 = 0) (c : sF σ 707 = k) (e : xx11_next N σ = some σ') : xx10_need N σ k = some σ' := by
  rw [xx10_need, take_y h c e]
  simp only [bd]
  rw [if_neg (by decide)]
  rfl
theorem need_n {N : Nat} {σ : mS} {k : Int32} (h : sF σ 646 = 0) (c : ¬ sF σ 707 = k) : xx10_need N σ k = xx10_fail N σ := by
  rw [xx10_need, take_n h c]
  simp only [bd]
  rw [if_pos trivial, fail_x h]
  rfl
theorem need_f {N : Nat} {σ : mS} {k : Int32} (h : sF σ 646 = 1) : xx10_need N σ k = some σ := by
  rw [xx10_need, take_f h]
  simp only [bd]
  rw [if_pos trivial, fail_xf h]
  rfl
theorem enter_f {N : Nat} {σ : mS} {k : Int32} (h : sF σ 646 = 1) : xx10_enter N σ k = some (md_pi σ 644 (sF σ 644 + 1)) := by
  rw [xx10_enter, fail_xf h]
  simp only [sF_fold, bd]
  rw [xx10_enter_b13, need_f h]
  split
  · rfl
  · rfl
theorem leave_f {N : Nat} {σ : mS} {k : Int32} (h : sF σ 646 = 1) : xx10_leave N σ k = some (md_pi σ 644 (sF σ 644 - 1)) := by
  rw [xx10_leave, need_f h]
  rfl
theorem leave_y {N : Nat} {σ σ' : mS} {k : Int32} (h : sF σ 646 = 0) (c : sF σ 707 = k) (e : xx11_next N σ = some σ') : xx10_leave N σ k = some (md_pi σ' 644 (sF σ' 644 - 1)) := by
  rw [xx10_leave, need_y h c e]
  rfl
theorem leave_n {N : Nat} {σ σ' : mS} {k : Int32} (h : sF σ 646 = 0) (c : ¬ sF σ 707 = k) (e : xx10_fail N σ = some σ') : xx10_leave N σ k = some (md_pi σ' 644 (sF σ' 644 - 1)) := by
  rw [xx10_leave, need_n h c, e]
  rfl
/-- a node comes to be -/
def ndS (σ : mS) (k : Int32) : mS := md_ai (md_ai (md_ai (md_ai (md_ai (md_ai (md_ai (md_ai (md_pi σ 584 (sF σ 584 + 1)) 576 (sF σ 584).toNatClampNeg (vp_nar .byte (Int32.toInt8 k).toInt32)) 577 (sF σ 584).toNatClampNeg (-1)) 578 (sF σ 584).toNatClampNeg (-1)) 579 (sF σ 584).toNatClampNeg (-1)) 580 (sF σ 584).toNatClampNeg (-1)) 581 (sF σ 584).toNatClampNeg (sF σ 709)) 582 (sF σ 584).toNatClampNeg (sF σ 708)) 583 (sF σ 584).toNatClampNeg (-1)
theorem node_e {N : Nat} {σ : mS} {k : Int32} (h : inB (sF σ 584) 13000 = true) : xx10_node N σ k = some (sF σ 584, ndS σ k) := by
  rw [xx10_node, xx9_make]
  simp only [lt, sF_fold]
  rw [gd_of h, gd_of h, gd_of h, gd_of h, gd_of h, gd_of h, gd_of h, gd_of h]
  rfl
def fTr (k : Nat) : Bool := [576, 577, 578, 579, 580, 581, 582, 583, 584].contains k
theorem ndS_fr {σ : mS} {k : Int32} : m_fr fTr σ (ndS σ k) := mf_ai (mf_ai (mf_ai (mf_ai (mf_ai (mf_ai (mf_ai (mf_ai (mf_pi mf_rfl rfl) rfl) rfl) rfl) rfl) rfl) rfl) rfl) rfl
theorem Tr_P : ∀ k, (705 ≤ k ∧ k ≤ 715) ∨ k = 12 ∨ (128 ≤ k ∧ k ≤ 142) ∨ k = 644 ∨ k = 646 ∨ k = 590 ∨ k = 645 → fTr k = false := fun k hk => by
  simp only [fTr, List.contains_cons, List.contains_nil, Bool.or_eq_false_iff, beq_eq_false_iff_ne]
  (repeat' (first | exact trivial | omega | apply And.intro))
/-- what a node is -/
def ND (σ : mS) (n k a b c d l p x : Int32) : Prop := nK σ n = k ∧ nA σ n = a ∧ nB σ n = b ∧ nC σ n = c ∧ nD σ n = d ∧ nL σ n = l ∧ nP σ n = p ∧ nX σ n = x
theorem ND_new {σ : mS} {k : Int32} : ND (ndS σ k) (sF σ 584) (vp_nar .byte (Int32.toInt8 k).toInt32) (-1) (-1) (-1) (-1) (sF σ 709) (sF σ 708) (-1) := by
  unfold ND nK nA nB nC nD nL nP nX ndS
  refine ⟨?_, ?_, ?_, ?_, ?_, ?_, ?_, ?_⟩
  · rw [sI_ai1 (by decide), sI_ai1 (by decide), sI_ai1 (by decide), sI_ai1 (by decide), sI_ai1 (by decide), sI_ai1 (by decide), sI_ai1 (by decide), sI_ai2]
  · rw [sI_ai1 (by decide), sI_ai1 (by decide), sI_ai1 (by decide), sI_ai1 (by decide), sI_ai1 (by decide), sI_ai1 (by decide), sI_ai2]
  · rw [sI_ai1 (by decide), sI_ai1 (by decide), sI_ai1 (by decide), sI_ai1 (by decide), sI_ai1 (by decide), sI_ai2]
  · rw [sI_ai1 (by decide), sI_ai1 (by decide), sI_ai1 (by decide), sI_ai1 (by decide), sI_ai2]
  · rw [sI_ai1 (by decide), sI_ai1 (by decide), sI_ai1 (by decide), sI_ai2]
  · rw [sI_ai1 (by decide), sI_ai1 (by decide), sI_ai2]
  · rw [sI_ai1 (by decide), sI_ai2]
  · rw [sI_ai2]
/-- what was made before stays, but for the next of r -/
def nEq (σ σ' : mS) (i : Int32) : Prop := nK σ' i = nK σ i ∧ nA σ' i = nA σ i ∧ nB σ' i = nB σ i ∧ nC σ' i = nC σ i ∧ nD σ' i = nD σ i ∧ nL σ' i = nL σ i ∧ nP σ' i = nP σ i
def fEq (σ σ' : mS) (f : Int32) : Prop := sI σ' 585 f = sI σ 585 f ∧ sI σ' 586 f = sI σ 586 f ∧ sI σ' 587 f = sI σ 587 f ∧ sI σ' 588 f = sI σ 588 f ∧ sI σ' 589 f = sI σ 589 f
theorem nEq_rfl {σ : mS} {i : Int32} : nEq σ σ i := ⟨rfl, rfl, rfl, rfl, rfl, rfl, rfl⟩
theorem nEq_tr {a b c : mS} {i : Int32} (h : nEq a b i) (g : nEq b c i) : nEq a c i := by
  obtain ⟨x1, x2, x3, x4, x5, x6, x7⟩ := h
  obtain ⟨y1, y2, y3, y4, y5, y6, y7⟩ := g
  exact ⟨y1.trans x1, y2.trans x2, y3.trans x3, y4.trans x4, y5.trans x5, y6.trans x6, y7.trans x7⟩
theorem fEq_tr {a b c : mS} {i : Int32} (h : fEq a b i) (g : fEq b c i) : fEq a c i := by
  obtain ⟨x1, x2, x3, x4, x5⟩ := h
  obtain ⟨y1, y2, y3, y4, y5⟩ := g
  exact ⟨y1.trans x1, y2.trans x2, y3.trans x3, y4.trans x4, y5.trans x5⟩
def KX (σ σ' : mS) (r : Int32) : Prop := (sF σ 584 ≤ sF σ' 584 ∧ sF σ 590 ≤ sF σ' 590) ∧ (∀ i, 0 ≤ i → i < sF σ 584 → nEq σ σ' i ∧ (i ≠ r → nX σ' i = nX σ i)) ∧ ∀ f, 0 ≤ f → f < sF σ 590 → fEq σ σ' f
theorem KX_rfl {σ : mS} {r : Int32} : KX σ σ r := ⟨⟨Int32.le_refl _, Int32.le_refl _⟩, fun _ _ _ => ⟨nEq_rfl, fun _ => rfl⟩, fun _ _ _ => ⟨rfl, rfl, rfl, rfl, rfl⟩⟩
theorem KX_tr {σ0 σ1 σ2 : mS} {r : Int32} (h : KX σ0 σ1 r) (g : KX σ1 σ2 r) : KX σ0 σ2 r := by
  obtain ⟨⟨a1, a2⟩, b, c⟩ := h
  obtain ⟨⟨A1, A2⟩, B, C⟩ := g
  refine ⟨⟨Int32.le_trans a1 A1, Int32.le_trans a2 A2⟩, fun i i0 i1 => ?_, fun f f0 f1 => ?_⟩
  · obtain ⟨x1, x8⟩ := b i i0 i1
    obtain ⟨y1, y8⟩ := B i i0 (Int32.lt_of_lt_of_le i1 a1)
    exact ⟨nEq_tr x1 y1, fun q => (y8 q).trans (x8 q)⟩
  · exact fEq_tr (c f f0 f1) (C f f0 (Int32.lt_of_lt_of_le f1 a2))
/-- a node that comes later may change its next -/
theorem KX_lo {σ0 σ1 σ2 : mS} {r r' : Int32} (h : KX σ0 σ1 r) (g : KX σ1 σ2 r') (hr : sF σ0 584 ≤ r') : KX σ0 σ2 r := by
  obtain ⟨⟨a1, a2⟩, b, c⟩ := h
  obtain ⟨⟨A1, A2⟩, B, C⟩ := g
  refine ⟨⟨Int32.le_trans a1 A1, Int32.le_trans a2 A2⟩, fun i i0 i1 => ?_, fun f f0 f1 => ?_⟩
  · obtain ⟨x1, x8⟩ := b i i0 i1
    obtain ⟨y1, y8⟩ := B i i0 (Int32.lt_of_lt_of_le i1 a1)
    exact ⟨nEq_tr x1 y1, fun q => (y8 (fun e => Int32.lt_irrefl (Int32.lt_of_lt_of_le i1 (e ▸ hr)))).trans (x8 q)⟩
  · exact fEq_tr (c f f0 f1) (C f f0 (Int32.lt_of_lt_of_le f1 a2))
theorem KX_fr {P : Nat → Bool} {σ σ' : mS} {r : Int32} (f : m_fr P σ σ') (hP : ∀ k, 576 ≤ k → k ≤ 590 → P k = false) : KX σ σ' r := by
  have i : ∀ k, 576 ≤ k → k ≤ 590 → ∀ j, sI σ' k j = sI σ k j := fun k k0 k1 j => mf_I f (hP k k0 k1)
  refine ⟨⟨by rw [mf_F f (hP 584 (by omega) (by omega))]; exact Int32.le_refl _, by rw [mf_F f (hP 590 (by omega) (by omega))]; exact Int32.le_refl _⟩, fun j _ _ => ⟨⟨i _ (by omega) (by omega) j, i _ (by omega) (by omega) j, i _ (by omega) (by omega) j, i _ (by omega) (by omega) j, i _ (by omega) (by omega) j, i _ (by omega) (by omega) j, i _ (by omega) (by omega) j⟩, fun _ => i _ (by omega) (by omega) j⟩, fun j _ _ => ⟨i _ (by omega) (by omega) j, i _ (by omega) (by omega) j, i _ (by omega) (by omega) j, i _ (by omega) (by omega) j, i _ (by omega) (by omega) j⟩⟩
/-- a field of a new node is set -/
theorem KX_ai {σ0 σ : mS} {r n v : Int32} {j : Nat} (h : KX σ0 σ r) (h0 : 0 ≤ sF σ0 584) (hn : sF σ0 584 ≤ n) (hj : j < 584) : KX σ0 (md_ai σ j n.toNatClampNeg v) r := by
  obtain ⟨a, b, c⟩ := h
  have n0 := Int32.le_trans h0 hn
  have q : ∀ i, 0 ≤ i → i < sF σ0 584 → ∀ k, sI (md_ai σ j n.toNatClampNeg v) k i = sI σ k i := fun i i0 i1 k => by
    rw [sI_ai n0 i0, if_neg (fun (e : k = j ∧ i = n) => Int32.lt_irrefl (Int32.lt_of_lt_of_le i1 (by rw [e.2]; exact hn)))]
  refine ⟨a, fun i i0 i1 => ?_, fun f f0 f1 => ?_⟩
  · obtain ⟨⟨x1, x2, x3, x4, x5, x6, x7⟩, x8⟩ := b i i0 i1
    have q' := q i i0 i1
    exact ⟨⟨(q' _).trans x1, (q' _).trans x2, (q' _).trans x3, (q' _).trans x4, (q' _).trans x5, (q' _).trans x6, (q' _).trans x7⟩, fun e => (q' _).trans (x8 e)⟩
  · obtain ⟨x1, x2, x3, x4, x5⟩ := c f f0 f1
    refine ⟨?_, ?_, ?_, ?_, ?_⟩
    · rw [sI_ai1 (by omega)]; exact x1
    · rw [sI_ai1 (by omega)]; exact x2
    · rw [sI_ai1 (by omega)]; exact x3
    · rw [sI_ai1 (by omega)]; exact x4
    · rw [sI_ai1 (by omega)]; exact x5
theorem KX_nx {σ : mS} {r v : Int32} (r0 : 0 ≤ r) : KX σ (md_ai σ 583 r.toNatClampNeg v) r := by
  refine ⟨⟨Int32.le_refl _, Int32.le_refl _⟩, fun i i0 i1 => ⟨⟨rfl, rfl, rfl, rfl, rfl, rfl, rfl⟩, fun e => ?_⟩, fun f f0 f1 => ⟨rfl, rfl, rfl, rfl, rfl⟩⟩
  unfold nX
  rw [sI_ai r0 i0, if_neg (fun q => e q.2)]
theorem KX_pi {σ0 σ : mS} {r v : Int32} {j : Nat} (h : KX σ0 σ r) (h1 : j ≠ 584) (h2 : j ≠ 590) : KX σ0 (md_pi σ j v) r := by
  obtain ⟨⟨a1, a2⟩, b, c⟩ := h
  exact ⟨⟨by rw [sF_pi, if_neg (fun e => h1 e.symm)]; exact a1, by rw [sF_pi, if_neg (fun e => h2 e.symm)]; exact a2⟩, b, c⟩
theorem KX_nd {σ : mS} {k r : Int32} (h0 : 0 ≤ sF σ 584) (h1 : sF σ 584 < 1000000) : KX σ (ndS σ k) r ∧ sF (ndS σ k) 584 = sF σ 584 + 1 ∧ sF σ 584 < sF (ndS σ k) 584 := by
  have l : sF σ 584 < sF σ 584 + 1 := by lia
  have le := Int32.le_of_lt l
  have u := Int32.le_refl (sF σ 584)
  have b : KX σ (md_pi σ 584 (sF σ 584 + 1)) r := ⟨⟨le, Int32.le_refl _⟩, fun _ _ _ => ⟨nEq_rfl, fun _ => rfl⟩, fun _ _ _ => ⟨rfl, rfl, rfl, rfl, rfl⟩⟩
  exact ⟨KX_ai (KX_ai (KX_ai (KX_ai (KX_ai (KX_ai (KX_ai (KX_ai b h0 u (by omega)) h0 u (by omega)) h0 u (by omega)) h0 u (by omega)) h0 u (by omega)) h0 u (by omega)) h0 u (by omega)) h0 u (by omega), rfl, l⟩
theorem ND_KX {σ σ' : mS} {n k a b c d l p x r : Int32} (h : ND σ n k a b c d l p x) (g : KX σ σ' r) (n0 : 0 ≤ n) (n1 : n < sF σ 584) (ne : n ≠ r) : ND σ' n k a b c d l p x := by
  obtain ⟨h1, h2, h3, h4, h5, h6, h7, h8⟩ := h
  obtain ⟨⟨x1, x2, x3, x4, x5, x6, x7⟩, x8⟩ := g.2.1 n n0 n1
  exact ⟨x1.trans h1, x2.trans h2, x3.trans h3, x4.trans h4, x5.trans h5, x6.trans h6, x7.trans h7, (x8 ne).trans h8⟩
theorem ND_fr {P : Nat → Bool} {σ σ' : mS} {n k a b c d l p x : Int32} (h : ND σ n k a b c d l p x) (f : m_fr P σ σ') (hP : ∀ k, 576 ≤ k → k ≤ 590 → P k = false) : ND σ' n k a b c d l p x := by
  have i : ∀ k, 576 ≤ k → k ≤ 590 → ∀ j, sI σ' k j = sI σ k j := fun k k0 k1 j => mf_I f (hP k k0 k1)
  obtain ⟨h1, h2, h3, h4, h5, h6, h7, h8⟩ := h
  exact ⟨(i _ (by omega) (by omega) n).trans h1, (i _ (by omega) (by omega) n).trans h2, (i _ (by omega) (by omega) n).trans h3, (i _ (by omega) (by omega) n).trans h4, (i _ (by omega) (by omega) n).trans h5, (i _ (by omega) (by omega) n).trans h6, (i _ (by omega) (by omega) n).trans h7, (i _ (by omega) (by omega) n).trans h8⟩
theorem ND_pi {σ : mS} {n k a b c d l p x v : Int32} {j : Nat} (h : ND σ n k a b c d l p x) : ND (md_pi σ j v) n k a b c d l p x := h
theorem ND_K {σ : mS} {n k a b c d l p x v : Int32} (h : ND σ n k a b c d l p x) : ND (md_ai σ 576 n.toNatClampNeg v) n v a b c d l p x := ⟨sI_ai2, h.2⟩
theorem ND_A {σ : mS} {n k a b c d l p x v : Int32} (h : ND σ n k a b c d l p x) : ND (md_ai σ 577 n.toNatClampNeg v) n k v b c d l p x := ⟨h.1, sI_ai2, h.2.2⟩
theorem ND_B {σ : mS} {n k a b c d l p x v : Int32} (h : ND σ n k a b c d l p x) : ND (md_ai σ 578 n.toNatClampNeg v) n k a v c d l p x := ⟨h.1, h.2.1, sI_ai2, h.2.2.2⟩
theorem ND_C {σ : mS} {n k a b c d l p x v : Int32} (h : ND σ n k a b c d l p x) : ND (md_ai σ 579 n.toNatClampNeg v) n k a b v d l p x := ⟨h.1, h.2.1, h.2.2.1, sI_ai2, h.2.2.2.2⟩
theorem ND_D {σ : mS} {n k a b c d l p x v : Int32} (h : ND σ n k a b c d l p x) : ND (md_ai σ 580 n.toNatClampNeg v) n k a b c v l p x := ⟨h.1, h.2.1, h.2.2.1, h.2.2.2.1, sI_ai2, h.2.2.2.2.2⟩
theorem ND_X {σ : mS} {n k a b c d l p x v : Int32} (h : ND σ n k a b c d l p x) : ND (md_ai σ 583 n.toNatClampNeg v) n k a b c d l p v := ⟨h.1, h.2.1, h.2.2.1, h.2.2.2.1, h.2.2.2.2.1, h.2.2.2.2.2.1, h.2.2.2.2.2.2.1, sI_ai2⟩
theorem ND_ne {σ : mS} {n m k a b c d l p x v : Int32} {j : Nat} (h : ND σ n k a b c d l p x) (n0 : 0 ≤ n) (m0 : 0 ≤ m) (ne : n ≠ m) : ND (md_ai σ j m.toNatClampNeg v) n k a b c d l p x := by
  have q : ∀ k, sI (md_ai σ j m.toNatClampNeg v) k n = sI σ k n := fun k => by rw [sI_ai m0 n0, if_neg (fun e => ne e.2)]
  obtain ⟨h1, h2, h3, h4, h5, h6, h7, h8⟩ := h
  exact ⟨(q _).trans h1, (q _).trans h2, (q _).trans h3, (q _).trans h4, (q _).trans h5, (q _).trans h6, (q _).trans h7, (q _).trans h8⟩
/-- a tree T that has what was made between σ0 and σ: but for what names, labels and gotos are bound to, and the next of r -/
def NSm (σ T : mS) (i : Int32) : Prop := nK T i = nK σ i ∧ nA T i = nA σ i ∧ (nK σ i ≠ 7 → nB T i = nB σ i) ∧ (nK σ i ≠ 7 → nK σ i ≠ 22 → nK σ i ≠ 24 → nC T i = nC σ i) ∧ nD T i = nD σ i ∧ nL T i = nL σ i ∧ nP T i = nP σ i
def AG (σ0 σ : mS) (r : Int32) (T : mS) : Prop := (∀ i, sF σ0 584 ≤ i → i < sF σ 584 → NSm σ T i ∧ (i ≠ r → nX T i = nX σ i)) ∧ ∀ f, sF σ0 590 ≤ f → f < sF σ 590 → fEq σ T f
theorem AG_sub {σ0 σ1 σ2 σ T : mS} {r r' : Int32} (h : AG σ0 σ r T) (p0 : 0 ≤ sF σ0 584) (q0 : 0 ≤ sF σ0 590) (a1 : sF σ0 584 ≤ sF σ1 584) (a2 : sF σ0 590 ≤ sF σ1 590) (g : KX σ2 σ r') (hr : r = r' ∨ r < sF σ1 584 ∨ sF σ2 584 ≤ r) : AG σ1 σ2 r' T := by
  obtain ⟨h1, h2⟩ := h
  obtain ⟨⟨b1, b2⟩, c, d⟩ := g
  refine ⟨fun i i0 i1 => ?_, fun f f0 f1 => ?_⟩
  · obtain ⟨⟨x1, x2, x3, x4, x5, x6, x7⟩, x8⟩ := h1 i (Int32.le_trans a1 i0) (Int32.lt_of_lt_of_le i1 b1)
    obtain ⟨⟨y1, y2, y3, y4, y5, y6, y7⟩, y8⟩ := c i (Int32.le_trans p0 (Int32.le_trans a1 i0)) i1
    rw [y1] at x1 x3 x4
    refine ⟨⟨x1, x2.trans y2, fun e => (x3 e).trans y3, fun e e2 e3 => (x4 e e2 e3).trans y4, x5.trans y5, x6.trans y6, x7.trans y7⟩, fun ne => ?_⟩
    refine (x8 (fun e => ?_)).trans (y8 ne)
    rcases hr with q | q | q
    · exact ne (e.trans q)
    · exact Int32.lt_irrefl (Int32.lt_of_lt_of_le (e ▸ q) i0)
    · exact Int32.lt_irrefl (Int32.lt_of_lt_of_le i1 (e ▸ q))
  · exact fEq_tr (d f (Int32.le_trans q0 (Int32.le_trans a2 f0)) f1) (h2 f (Int32.le_trans a2 f0) (Int32.lt_of_lt_of_le f1 b2))
theorem AG_ND {σ0 σ T : mS} {r n k a b c d l p x : Int32} (h : AG σ0 σ r T) (g : ND σ n k a b c d l p x) (n0 : sF σ0 584 ≤ n) (n1 : n < sF σ 584) : nK T n = k ∧ nA T n = a ∧ (k ≠ 7 → nB T n = b) ∧ (k ≠ 7 → k ≠ 22 → k ≠ 24 → nC T n = c) ∧ nD T n = d ∧ nL T n = l ∧ nP T n = p ∧ (n ≠ r → nX T n = x) := by
  obtain ⟨g1, g2, g3, g4, g5, g6, g7, g8⟩ := g
  obtain ⟨⟨x1, x2, x3, x4, x5, x6, x7⟩, x8⟩ := h.1 n n0 n1
  rw [g1] at x1 x3 x4
  exact ⟨x1, x2.trans g2, fun e => (x3 e).trans g3, fun e e2 e3 => (x4 e e2 e3).trans g4, x5.trans g5, x6.trans g6, x7.trans g7, fun e => (x8 e).trans g8⟩
