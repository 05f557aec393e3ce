/-! LAYER 2: the reference's compiler: what always holds of its rows -/
def HA (A : Nat → Int) (n : Int) : Prop := (0 ≤ A 75 ∧ A 75 + 20 * n ≤ 150000) ∧ (0 ≤ A 82 ∧ 4 * A 82 + 20 * n ≤ 34000) ∧ (0 ≤ A 84 ∧ A 84 + 140 * n ≤ 230000) ∧ (0 ≤ A 5 ∧ 5 * A 5 + 20 * n ≤ 148000) ∧ (0 ≤ A 6 ∧ A 6 + 20 * n ≤ 68000) ∧ (0 ≤ A 134 ∧ 5 * A 134 + 20 * n ≤ 218000) ∧ (0 ≤ A 133 ∧ A 133 + 20 * n ≤ 66000) ∧ 0 ≤ n ∧ n ≤ 1280
def MB (A : Nat → Int) (b : Int) (μ : mS) : Prop := (A 75 ≤ tF μ 75 ∧ tF μ 75 ≤ A 75 + b) ∧ (A 82 ≤ tF μ 82 ∧ 4 * (tF μ 82 - A 82) ≤ b) ∧ (0 ≤ tF μ 84 ∧ tF μ 84 ≤ A 84 + 7 * b) ∧ (0 ≤ tF μ 97 ∧ 5 * tF μ 97 ≤ b) ∧ (0 ≤ tF μ 99 ∧ 4 * tF μ 99 ≤ b) ∧ (0 ≤ tF μ 114 ∧ 8 * tF μ 114 ≤ b) ∧ (0 ≤ tF μ 120 ∧ 8 * tF μ 120 ≤ b) ∧ (0 ≤ tF μ 122 ∧ 8 * tF μ 122 ≤ b) ∧ (0 ≤ tF μ 107 ∧ tF μ 107 ≤ b) ∧ 5 * (tF μ 5 - A 5) ≤ b ∧ tF μ 6 - A 6 ≤ b
/-- what the rows hold -/
def MWl (μ : mS) : Prop := ∀ k, 0 ≤ k → k < sF μ 97 → (0 ≤ sI μ 95 k ∧ sI μ 95 k < sF μ 99) ∧ 0 ≤ sI μ 96 k ∧ sI μ 96 k ≤ sF μ 85
def MWc (μ : mS) : Prop := ∀ k, 0 ≤ k → k ≤ sF μ 85 → (0 ≤ sI μ 90 k ∧ sI μ 90 k ≤ 50) ∧ 0 ≤ sI μ 87 k ∧ sI μ 87 k < sF μ 82
def MWg (μ : mS) : Prop := ∀ g, 0 ≤ g → g < sF μ 120 → 0 ≤ (sI μ 117 g).toInt ∧ (sI μ 117 g).toInt + 1 < tF μ 75
def MWk (μ : mS) : Prop := ∀ k, 0 ≤ k → k < sF μ 122 → 0 ≤ (sI μ 121 k).toInt ∧ (sI μ 121 k).toInt + 1 < tF μ 75
def MWb (μ : mS) : Prop := ∀ a b, 0 ≤ a → a ≤ b → b < sF μ 106 → (0 ≤ sI μ 100 a ∧ sI μ 100 a ≤ sI μ 100 b ∧ sI μ 100 b ≤ sF μ 97) ∧ (0 ≤ sI μ 102 a ∧ sI μ 102 a ≤ sI μ 102 b ∧ sI μ 102 b ≤ sF μ 114) ∧ 0 ≤ sI μ 103 a ∧ sI μ 103 a ≤ sI μ 103 b ∧ sI μ 103 b ≤ sF μ 120
def MW (μ : mS) : Prop := MWl μ ∧ MWc μ ∧ MWg μ ∧ MWk μ ∧ MWb μ
def MLo (o : Nat) (μ : mS) : Prop := (0 ≤ tF μ 85 ∧ tF μ 85 ≤ 40 - o) ∧ (1 ≤ tF μ 106 ∧ tF μ 106 ≤ 41 - o) ∧ (0 ≤ tF μ 138 ∧ tF μ 138 ≤ 120 * (41 - o)) ∧ (0 ≤ tF μ 140 ∧ tF μ 140 ≤ 160 * (41 - o)) ∧ 0 ≤ tF μ 133 ∧ o ≤ 40
def MI (A : Nat → Int) (n b : Int) (o : Nat) (μ : mS) : Prop := (0 ≤ b ∧ b ≤ 20 * n + 900) ∧ HA A n ∧ MB A b μ ∧ MW μ ∧ MLo o μ
def MIp (P : Nat → Bool) : Prop := ∀ k, [82, 84, 97, 99, 114, 120, 122, 107, 5, 6, 85, 106, 138, 140, 133, 95, 96, 90, 87, 117, 121, 100, 102, 103].contains k = true → P k = false
def MIq (P : Nat → Bool) : Prop := ∀ k, [82, 84, 97, 99, 114, 120, 122, 107, 5, 6, 85, 106, 138, 140, 133, 95, 96, 117, 121, 100, 102, 103].contains k = true → P k = false
theorem MI_fr2 {P : Nat → Bool} {A : Nat → Int} {n b b' : Int} {o : Nat} {σ σ' : mS} (h : MI A n b o σ) (f : m_fr P σ σ') (hP : MIq P) (hc : MWc σ') (hb : b ≤ b') (hn : b' ≤ 20 * n + 900) (e1 : tF σ 75 ≤ tF σ' 75) (e2 : tF σ' 75 ≤ tF σ 75 + (b' - b)) : MI A n b' o σ' := by
  obtain ⟨h0, hA, ⟨m1, m2, m3, m4, m5, m6, m7, m8, m9, m10, m11⟩, ⟨w1, w2, w3, w4, w5⟩, l1, l2, l3, l4, l5, l6⟩ := h
  have t : ∀ k, [82, 84, 97, 99, 114, 120, 122, 107, 5, 6, 85, 106, 138, 140, 133, 95, 96, 117, 121, 100, 102, 103].contains k = true → sF σ' k = sF σ k := fun k hk => mf_F f (hP k hk)
  have i : ∀ k, [82, 84, 97, 99, 114, 120, 122, 107, 5, 6, 85, 106, 138, 140, 133, 95, 96, 117, 121, 100, 102, 103].contains k = true → ∀ j, sI σ' k j = sI σ k j := fun k hk j => mf_I f (hP k hk)
  have u : ∀ k, [82, 84, 97, 99, 114, 120, 122, 107, 5, 6, 85, 106, 138, 140, 133, 95, 96, 117, 121, 100, 102, 103].contains k = true → tF σ' k = tF σ k := fun k hk => by unfold tF; rw [t k hk]
  refine ⟨⟨by omega, hn⟩, hA, ⟨⟨by omega, by omega⟩, ?_, ?_, ?_, ?_, ?_, ?_, ?_, ?_, ?_, ?_⟩, ⟨?_, ?_, ?_, ?_, ?_⟩, ?_, ?_, ?_, ?_, ?_, l6⟩
  · rw [u 82 rfl]; omega
  · rw [u 84 rfl]; omega
  · rw [u 97 rfl]; omega
  · rw [u 99 rfl]; omega
  · rw [u 114 rfl]; omega
  · rw [u 120 rfl]; omega
  · rw [u 122 rfl]; omega
  · rw [u 107 rfl]; omega
  · rw [u 5 rfl]; omega
  · rw [u 6 rfl]; omega
  · intro k k0 k1
    rw [t 97 rfl] at k1
    rw [i 95 rfl, i 96 rfl, t 99 rfl, t 85 rfl]
    exact w1 k k0 k1
  · exact hc
  · intro k k0 k1
    rw [t 120 rfl] at k1
    rw [i 117 rfl]
    have := w3 k k0 k1
    omega
  · intro k k0 k1
    rw [t 122 rfl] at k1
    rw [i 121 rfl]
    have := w4 k k0 k1
    omega
  · intro a b a0 ab b1
    rw [t 106 rfl] at b1
    rw [i 100 rfl, i 100 rfl, i 102 rfl, i 102 rfl, i 103 rfl, i 103 rfl, t 97 rfl, t 114 rfl, t 120 rfl]
    exact w5 a b a0 ab b1
  · rw [u 85 rfl]; exact l1
  · rw [u 106 rfl]; exact l2
  · rw [u 138 rfl]; exact l3
  · rw [u 140 rfl]; exact l4
  · rw [u 133 rfl]; exact l5
theorem MI_fr {P : Nat → Bool} {A : Nat → Int} {n b b' : Int} {o : Nat} {σ σ' : mS} (h : MI A n b o σ) (f : m_fr P σ σ') (hP : MIp P) (hb : b ≤ b') (hn : b' ≤ 20 * n + 900) (e1 : tF σ 75 ≤ tF σ' 75) (e2 : tF σ' 75 ≤ tF σ 75 + (b' - b)) : MI A n b' o σ' := by
  refine MI_fr2 h f (fun k hk => hP k ?_) (fun k k0 k1 => ?_) hb hn e1 e2
  · simp only [List.contains_cons, List.contains_nil, Bool.or_eq_true, beq_iff_eq, Bool.or_false] at hk ⊢
    omega
  · rw [mf_F f (hP 85 rfl)] at k1
    rw [mf_I f (hP 90 rfl), mf_I f (hP 87 rfl), mf_F f (hP 82 rfl)]
    exact h.2.2.2.1.2.1 k k0 k1
theorem MIq_of {P : Nat → Bool} (h : [82, 84, 97, 99, 114, 120, 122, 107, 5, 6, 85, 106, 138, 140, 133, 95, 96, 117, 121, 100, 102, 103].all (fun k => !P k) = true) : MIq P := by
  intro k hk
  have := List.all_eq_true.mp h k (List.contains_iff_mem.mp hk)
  simpa using this
theorem MIp_of {P : Nat → Bool} (h : [82, 84, 97, 99, 114, 120, 122, 107, 5, 6, 85, 106, 138, 140, 133, 95, 96, 90, 87, 117, 121, 100, 102, 103].all (fun k => !P k) = true) : MIp P := by
  intro k hk
  have := List.all_eq_true.mp h k (List.contains_iff_mem.mp hk)
  simpa using this
theorem MIp_Op : MIp fOp := MIp_of rfl
theorem MIp_T : MIp fTm := MIp_of rfl
theorem MI_up {A : Nat → Int} {n b b' : Int} {o : Nat} {σ : mS} (h : MI A n b o σ) (hb : b ≤ b') (hn : b' ≤ 20 * n + 900) : MI A n b' o σ := MI_fr (P := fun _ => false) h mf_rfl (fun _ _ => rfl) hb hn (Int.le_refl _) (by omega)
theorem MI_RO {A : Nat → Int} {n b : Int} {o : Nat} {σ : mS} (h : MI A n b o σ) : RO 5000 σ := by
  obtain ⟨h0, hA, hB, hW, hL⟩ := h
  have a := hA.1
  have c := hB.1
  have d := hL.1
  exact ⟨⟨by omega, by omega⟩, d.1, by omega⟩
theorem MI_Op {A : Nat → Int} {n b k : Int} {o : Nat} {σ : mS} {x : Option mS} (h : MI A n b o σ) (q : OPo k σ x) (k0 : 0 ≤ k) (hn : b + k ≤ 20 * n + 900) : ∃ σ', x = some σ' ∧ m_fr fOp σ σ' ∧ MI A n (b + k) o σ' := by
  obtain ⟨σ', e, f, e1, e2⟩ := q
  exact ⟨σ', e, f, MI_fr h f MIp_Op (by omega) hn e1 (by omega)⟩
/-- what lies on the compiler's piles stays -/
def KPL (μ μ' : mS) : Prop := (sF μ' 85 = sF μ 85 ∧ sF μ' 106 = sF μ 106 ∧ sF μ' 133 = sF μ 133 ∧ sF μ' 138 = sF μ 138 ∧ sF μ' 140 = sF μ 140 ∧ sF μ' 129 = sF μ 129 ∧ sF μ' 67 = sF μ 67) ∧ sF μ 97 ≤ sF μ' 97 ∧ (∀ k, 0 ≤ k → k < sF μ 97 → sI μ' 96 k = sI μ 96 k) ∧ (∀ k, 0 ≤ k → k < sF μ 106 → sI μ' 100 k = sI μ 100 k ∧ sI μ' 102 k = sI μ 102 k ∧ sI μ' 103 k = sI μ 103 k) ∧ (∀ k, 0 ≤ k → k < sF μ 133 → sI μ' 130 k = sI μ 130 k ∧ sI μ' 131 k = sI μ 131 k ∧ sI μ' 132 k = sI μ 132 k) ∧ (∀ k, 0 ≤ k → k < sF μ 138 → sI μ' 137 k = sI μ 137 k) ∧ (∀ k, 0 ≤ k → k < sF μ 140 → sI μ' 139 k = sI μ 139 k) ∧ ∀ k, 0 ≤ k → k < sF μ 85 → sI μ' 87 k = sI μ 87 k
theorem KPL_rfl {μ : mS} : KPL μ μ := ⟨⟨rfl, rfl, rfl, rfl, rfl, rfl, rfl⟩, Int32.le_refl _, fun _ _ _ => rfl, fun _ _ _ => ⟨rfl, rfl, rfl⟩, fun _ _ _ => ⟨rfl, rfl, rfl⟩, fun _ _ _ => rfl, fun _ _ _ => rfl, fun _ _ _ => rfl⟩
theorem KPL_tr {μ ν κ : mS} (h : KPL μ ν) (g : KPL ν κ) : KPL μ κ := by
  obtain ⟨⟨a1, a2, a3, a4, a5, a6, a7⟩, b, c, d, e, f, i, l⟩ := h
  obtain ⟨⟨A1, A2, A3, A4, A5, A6, A7⟩, B, C, D, E, F, I, L⟩ := g
  refine ⟨⟨A1.trans a1, A2.trans a2, A3.trans a3, A4.trans a4, A5.trans a5, A6.trans a6, A7.trans a7⟩, Int32.le_trans b B, fun k k0 k1 => (C k k0 (Int32.lt_of_lt_of_le k1 b)).trans (c k k0 k1), fun k k0 k1 => ?_, fun k k0 k1 => ?_, fun k k0 k1 => (F k k0 (by rw [a4]; exact k1)).trans (f k k0 k1), fun k k0 k1 => (I k k0 (by rw [a5]; exact k1)).trans (i k k0 k1), fun k k0 k1 => (L k k0 (by rw [a1]; exact k1)).trans (l k k0 k1)⟩
  · obtain ⟨x, y, z⟩ := D k k0 (by rw [a2]; exact k1)
    obtain ⟨x', y', z'⟩ := d k k0 k1
    exact ⟨x.trans x', y.trans y', z.trans z'⟩
  · obtain ⟨x, y, z⟩ := E k k0 (by rw [a3]; exact k1)
    obtain ⟨x', y', z'⟩ := e k k0 k1
    exact ⟨x.trans x', y.trans y', z.trans z'⟩
def KLp (P : Nat → Bool) : Prop := ∀ k, [85, 106, 133, 138, 140, 129, 67, 97, 96, 100, 102, 103, 130, 131, 132, 137, 139, 87].contains k = true → P k = false
theorem KLp_of {P : Nat → Bool} (h : [85, 106, 133, 138, 140, 129, 67, 97, 96, 100, 102, 103, 130, 131, 132, 137, 139, 87].all (fun k => !P k) = true) : KLp P := by
  intro k hk
  have := List.all_eq_true.mp h k (List.contains_iff_mem.mp hk)
  simpa using this
theorem KPL_fr {P : Nat → Bool} {σ σ' : mS} (f : m_fr P σ σ') (h : KLp P) : KPL σ σ' := ⟨⟨mf_F f (h 85 rfl), mf_F f (h 106 rfl), mf_F f (h 133 rfl), mf_F f (h 138 rfl), mf_F f (h 140 rfl), mf_F f (h 129 rfl), mf_F f (h 67 rfl)⟩, by rw [mf_F f (h 97 rfl)]; exact Int32.le_refl _, fun _ _ _ => mf_I f (h 96 rfl), fun _ _ _ => ⟨mf_I f (h 100 rfl), mf_I f (h 102 rfl), mf_I f (h 103 rfl)⟩, fun _ _ _ => ⟨mf_I f (h 130 rfl), mf_I f (h 131 rfl), mf_I f (h 132 rfl)⟩, fun _ _ _ => mf_I f (h 137 rfl), fun _ _ _ => mf_I f (h 139 rfl), fun _ _ _ => mf_I f (h 87 rfl)⟩
theorem KLp_Op : KLp fOp := KLp_of rfl
theorem KLp_T : KLp fTm := KLp_of rfl
theorem KLp_TX : KLp fTXm := KLp_of rfl
/-- captures -/
def fCp (k : Nat) : Bool := [90, 91, 92, 98, 123, 124].contains k
theorem cap_ix {a x : Int32} (a0 : 0 ≤ a) (a1 : a ≤ 46) (x0 : 0 ≤ x) (x1 : x ≤ 50) : 0 ≤ 51 * a + x ∧ 51 * a + x < 2448 := ⟨by lia, by lia⟩
theorem stray_o {N : Nat} {σ : mS} {p l : Int32} : ∃ σ', mm_stray N σ p l = some σ' ∧ m_fr (fun k => [123, 124].contains k) σ σ' := by
  have u : ∃ σ', mm_stray_15 N p l σ = some σ' ∧ m_fr (fun k => [123, 124].contains k) σ σ' := ⟨_, rfl, mf_pi (mf_pi mf_rfl rfl) rfl⟩
  rw [mm_stray]
  split
  · exact u
  · split
    · exact ⟨_, rfl, mf_rfl⟩
    · exact u
def CPo (L : Int32) (σ : mS) (x : Option (Int32 × mS)) : Prop := ∃ r σ', x = some (r, σ') ∧ m_fr fCp σ σ' ∧ ∀ k, 0 ≤ k → k ≤ L → 0 ≤ sI σ' 90 k ∧ sI σ' 90 k ≤ 50
theorem cap_1 {a : Int32} (a0 : 0 ≤ a) (a1 : a ≤ 50) (h : ¬ a = 50) : 0 ≤ a + 1 ∧ a + 1 ≤ 50 := ⟨by lia, by lia⟩
theorem cap86 {N : Nat} {T : ty_capture} {L v1 v3 v4 v5 y : Int32} {σ : mS} (hL : L ≤ 46) (h0 : 0 ≤ v1) (h1 : v1 ≤ L) (hv : inB v5 8200 = true) (hc : ∀ k, 0 ≤ k → k ≤ L → 0 ≤ sI σ 90 k ∧ sI σ 90 k ≤ 50) : CPo L σ (mm_capture_86 N T v1 v3 v4 v5 y σ) := by
  have g : inB v1 48 = true := tI_in (tI_le.mp h0) (by have := tI_le.mp (Int32.le_trans h1 hL); rw [show (46 : Int32).toInt = 46 from rfl] at this; omega)
  obtain ⟨c0, c1⟩ := hc v1 h0 h1
  have ix := cap_ix h0 (Int32.le_trans h1 hL) c0 c1
  have g2 : inB (51 * v1 + sI σ 90 v1) 2448 = true := tI_in (tI_le.mp ix.1) (by have := tI_lt.mp ix.2; rw [show (2448 : Int32).toInt = 2448 from rfl] at this; omega)
  rw [mm_capture_86, gd_of g]
  simp only [sI_fold]
  by_cases c : sI σ 90 v1 = 50
  · rw [if_pos c]
    obtain ⟨σ', e, f⟩ := stray_o (N := N) (σ := σ) (p := v3) (l := v4)
    rw [e]
    refine ⟨0, σ', rfl, mf_mono f (fun k hk => ?_), fun k k0 k1 => by rw [mf_I f rfl]; exact hc k k0 k1⟩
    simp only [fCp, List.contains_cons, List.contains_nil, Bool.or_eq_false_iff, beq_eq_false_iff_ne] at hk ⊢
    (repeat' (first | exact trivial | omega | apply And.intro))
  · rw [if_neg c, gd_of hv]
    simp only [lt, sI_fold]
    rw [gd_of g, show sI (md_ai σ 98 v5.toNatClampNeg (vp_nar .boolean 1)) 90 v1 = sI σ 90 v1 from rfl, gd_of g2, gd_of g]
    rw [show sI (md_ai (md_ai σ 98 v5.toNatClampNeg (vp_nar .boolean 1)) 91 (51 * v1 + sI σ 90 v1).toNatClampNeg v5) 90 v1 = sI σ 90 v1 from rfl, gd_of g2, gd_of g, gd_of g, gd_of g]
    refine ⟨_, _, rfl, mf_ai (mf_ai (mf_ai (mf_ai mf_rfl rfl) rfl) rfl) rfl, fun k k0 k1 => ?_⟩
    rw [sI_ai h0 k0]
    split
    · exact cap_1 c0 c1 c
    · exact hc k k0 k1
theorem cap_lp {N : Nat} {T : ty_capture} {L v1 v2 v3 v4 v5 : Int32} {σ : mS} (hL : L ≤ 46) (h0 : 0 ≤ v1) (h1 : v1 ≤ L) (hv : inB v5 8200 = true) (h2 : inB v2 6000 = true) (hc : ∀ k, 0 ≤ k → k ≤ L → 0 ≤ sI σ 90 k ∧ sI σ 90 k ≤ 50) (hT : ¬ sI σ 96 v2 = v1 - 1 → CPo L σ (T σ (v1 - 1) v2 v3 v4)) : ∀ (f : Nat) (v6 : Int32), 0 ≤ v6 → v6 ≤ 50 → (50 - v6.toInt).toNat < f → CPo L σ (mm_capture_11 N T f v1 v2 v3 v4 v5 v6 σ) := by
  have g : inB v1 48 = true := tI_in (tI_le.mp h0) (by have := tI_le.mp (Int32.le_trans h1 hL); rw [show (46 : Int32).toInt = 46 from rfl] at this; omega)
  obtain ⟨c0, c1⟩ := hc v1 h0 h1
  intro f
  induction f with
  | zero => intro v6 _ _ h; omega
  | succ f ih =>
    intro v6 a0 a1 hf
    have ix := cap_ix h0 (Int32.le_trans h1 hL) a0 a1
    have g2 : inB (51 * v1 + v6) 2448 = true := tI_in (tI_le.mp ix.1) (by have := tI_lt.mp ix.2; rw [show (2448 : Int32).toInt = 2448 from rfl] at this; omega)
    rw [mm_capture_11, gd_of g]
    simp only [sI_fold]
    by_cases c : sI σ 90 v1 ≤ v6
    · rw [if_pos c, gd_of h2]
      by_cases d : sI σ 96 v2 = v1 - 1
      · rw [if_pos d, gd_of h2]
        exact cap86 hL h0 h1 hv hc
      · rw [if_neg d]
        obtain ⟨r, τ, e, f1, f2⟩ := hT d
        rw [e]
        obtain ⟨r2, υ, e2, g1, g3⟩ := cap86 (N := N) (T := T) (v3 := v3) (v4 := v4) (y := 2 * r + 1) hL h0 h1 hv f2
        exact ⟨r2, υ, e2, mf_tr f1 g1, g3⟩
    · rw [if_neg c, gd_of g2]
      split
      · exact ⟨_, _, rfl, mf_rfl, hc⟩
      · simp only [lt]
        have l : v6 < 50 := Int32.lt_of_lt_of_le (Int32.not_le.mp c) c1
        have i : (v6 + 1).toInt = v6.toInt + 1 := tI_inc a0 (Int32.lt_trans l (by decide))
        have i2 := tI_lt.mp l
        rw [show (50 : Int32).toInt = 50 from rfl] at i2
        have i3 := tI_le.mp a0
        rw [show (0 : Int32).toInt = 0 from rfl] at i3
        exact ih (v6 + 1) (by rw [tI_le, i, show (0 : Int32).toInt = 0 from rfl]; omega) (by rw [tI_le, i, show (50 : Int32).toInt = 50 from rfl]; omega) (by omega)
theorem capt_2 {v l : Int32} (v0 : 0 ≤ v) (l0 : 0 ≤ l) (h : l < v) (v1 : v ≤ 46) (ne : ¬ l = v - 1) : 0 ≤ v - 1 ∧ l < v - 1 ∧ v - 1 ≤ v ∧ (v - 1).toInt = v.toInt - 1 := by
  have e : (v - 1).toInt = v.toInt - 1 := by
    have q : (v - 1 + 1).toInt = (v - 1).toInt + 1 := tI_inc (by lia) (by lia)
    rw [Int32.sub_add_cancel] at q
    omega
  exact ⟨by lia, by lia, by lia, e⟩
theorem cap_o {N : Nat} (hN : BIG ≤ N) {L v2 v3 v4 : Int32} (hL : L ≤ 46) (h2 : inB v2 6000 = true) : ∀ (d : Nat) (v1 : Int32) (σ : mS), 0 ≤ sI σ 96 v2 → sI σ 96 v2 < v1 → v1 ≤ L → inB (sI σ 95 v2) 8200 = true → (∀ k, 0 ≤ k → k ≤ L → 0 ≤ sI σ 90 k ∧ sI σ 90 k ≤ 50) → v1.toInt - (sI σ 96 v2).toInt ≤ d → CPo L σ (rc_capture N d σ v1 v2 v3 v4) := by
  intro d
  induction d with
  | zero =>
    intro v1 σ _ b _ _ _ h
    have := tI_lt.mp b
    omega
  | succ d ih =>
    intro v1 σ a b c hv hc hd
    have h0 : 0 ≤ v1 := Int32.le_trans a (Int32.le_of_lt b)
    show CPo L σ (mb_capture N (rc_capture N d) σ v1 v2 v3 v4)
    rw [mb_capture, gd_of h2]
    simp only [lt, sI_fold]
    have i2 : 100 < N := Nat.lt_of_lt_of_le (by decide) hN
    refine cap_lp hL h0 c hv h2 hc (fun ne => ?_) N 0 (by decide) (by decide) (by rw [show (0 : Int32).toInt = 0 from rfl]; omega)
    have q := capt_2 h0 a b (Int32.le_trans c hL) ne
    exact ih (v1 - 1) σ a q.2.1 (Int32.le_trans q.2.2.1 c) hv hc (by rw [q.2.2.2]; omega)
/-- a name is looked up -/
def fNa (k : Nat) : Bool := [90, 91, 92, 98, 123, 124, 125, 126, 127, 128].contains k
theorem nam_1 {v : Int32} (h : ¬ v < 0) (h1 : v < 100000) : (v + (-1)).toInt = v.toInt - 1 := by
  have q : (v + (-1) + 1).toInt = (v + (-1)).toInt + 1 ∨ v = 0 := by
    by_cases e : v = 0
    · exact .inr e
    · exact .inl (tI_inc (by lia) (by lia))
  rcases q with q | q
  · rw [show v + (-1) + 1 = v from by lia] at q
    omega
  · subst q; decide
theorem nam_lp {N : Nat} {s p l : Int32} {μ : mS} (h97 : tF μ 97 ≤ 6000) : ∀ (f : Nat) (v : Int32), -1 ≤ v.toInt → v.toInt < tF μ 97 → v.toInt + 2 ≤ f → ∃ k, mm_name_8 N f s p l v μ = mm_name_30 N s p l k μ ∧ (k < 0 ∨ (0 ≤ k ∧ k < sF μ 97)) := by
  intro f
  induction f with
  | zero => intro v a _ c; omega
  | succ f ih =>
    intro v a b c
    rw [mm_name_8]
    by_cases d : v < 0
    · rw [if_pos d]
      exact ⟨v, rfl, .inl d⟩
    · have d0 := Int32.not_lt.mp d
      have g : inB v 6000 = true := tI_in (tI_le.mp d0) (by omega)
      have e : 0 ≤ v ∧ v < sF μ 97 := ⟨d0, tI_lt.mpr b⟩
      rw [if_neg d, gd_of g]
      split
      · exact ⟨v, rfl, .inr e⟩
      · have i := nam_1 d (by rw [tI_lt, show (100000 : Int32).toInt = 100000 from rfl]; omega)
        have z := tI_le.mp d0
        rw [show (0 : Int32).toInt = 0 from rfl] at z
        simp only [lt]
        exact ih _ (by omega) (by omega) (by omega)
theorem name_o {N : Nat} (hN : BIG ≤ N) {A : Nat → Int} {n b : Int} {o : Nat} {μ : mS} {s p l : Int32} (h : MI A n b o μ) : ∃ μ', mm_name N μ s p l = some μ' ∧ MI A n b o μ' ∧ m_fr fNa μ μ' ∧ (sF μ' 125 = 1 ∨ sF μ' 125 = 2 ∨ sF μ' 125 = 3) := by
  have h' := h
  obtain ⟨h0, hA, ⟨m1, m2, m3, m4, m5, _⟩, ⟨w1, w2, _⟩, l1, _⟩ := h
  have a := hA.2.2.2.2.2.2.2
  have fin : ∀ τ, m_fr fNa μ τ → (∀ k, 0 ≤ k → k ≤ sF μ 85 → 0 ≤ sI τ 90 k ∧ sI τ 90 k ≤ 50) → MI A n b o τ := fun τ f hc => by
    refine MI_fr2 h' f (MIq_of rfl) (fun k k0 k1 => ?_) (Int.le_refl _) h0.2 (by unfold tF; rw [mf_F f rfl]; exact Int.le_refl _) (by unfold tF; rw [mf_F f rfl]; omega)
    rw [mf_F f rfl] at k1
    rw [mf_I f (k := 87) rfl, mf_F f (k := 82) rfl]
    exact ⟨hc k k0 k1, (w2 k k0 k1).2⟩
  have c0 : ∀ k, 0 ≤ k → k ≤ sF μ 85 → 0 ≤ sI μ 90 k ∧ sI μ 90 k ≤ 50 := fun k k0 k1 => (w2 k k0 k1).1
  rw [mm_name]
  simp only [lt, sF_fold]
  have z : (sF μ 97 - 1).toInt = tF μ 97 - 1 := by
    have q := nam_1 (v := sF μ 97) (Int32.not_lt.mpr (tI_le.mpr m4.1)) (by rw [tI_lt, show (100000 : Int32).toInt = 100000 from rfl]; unfold tF at m4; omega)
    rw [show sF μ 97 - 1 = sF μ 97 + (-1) from by rw [Int32.sub_eq_add_neg]]
    exact q
  have iN : 1000000 ≤ N := Nat.le_trans (by decide) hN
  obtain ⟨k, e, hk⟩ := nam_lp (N := N) (s := s) (p := p) (l := l) (μ := μ) (by omega) N (sF μ 97 - 1) (by omega) (by omega) (by omega)
  rw [e, mm_name_30]
  simp only [lt]
  rcases hk with hk | ⟨k0, k1⟩
  · rw [if_neg (Int32.not_le.mpr hk)]
    refine ⟨_, rfl, ?_, mf_pi (mf_pi (mf_pi mf_rfl rfl) rfl) rfl, .inr (.inr rfl)⟩
    exact fin _ (mf_pi (mf_pi (mf_pi mf_rfl rfl) rfl) rfl) c0
  · have g : inB k 6000 = true := tI_in (tI_le.mp k0) (by have := tI_lt.mp k1; unfold tF at m4; omega)
    obtain ⟨⟨x1, x2⟩, x3, x4⟩ := w1 k k0 k1
    rw [if_pos k0, gd_of g]
    by_cases c : (md_pi μ 128 l).2.2.1 96 k.toNatClampNeg = (md_pi μ 128 l).1 85
    · rw [if_pos c, gd_of g, gd_of g]
      refine ⟨_, rfl, ?_, mf_pi (mf_pi (mf_pi (mf_pi mf_rfl rfl) rfl) rfl) rfl, .inl rfl⟩
      exact fin _ (mf_pi (mf_pi (mf_pi (mf_pi mf_rfl rfl) rfl) rfl) rfl) c0
    · rw [if_neg c]
      have c' : ¬ sI μ 96 k = sF μ 85 := c
      have lt' : sI μ 96 k < sF μ 85 := Int32.lt_of_le_of_ne x4 c'
      have l46 : sF μ 85 ≤ 46 := by rw [tI_le, show (46 : Int32).toInt = 46 from rfl]; unfold tF at l1; omega
      have gv : inB (sI μ 95 k) 8200 = true := tI_in (tI_le.mp x1) (by have := tI_lt.mp x2; unfold tF at m5; omega)
      obtain ⟨r, τ, e2, f2, c2⟩ := cap_o hN (v3 := p) (v4 := l) l46 g 45 (sF μ 85) (md_pi μ 128 l) x3 lt' (Int32.le_refl _) gv c0 (by
        have := tI_le.mp x3
        rw [show (0 : Int32).toInt = 0 from rfl] at this
        show (sF μ 85).toInt - (sI μ 96 k).toInt ≤ _
        unfold tF at l1
        omega)
      have e3 : mm_capture N (md_pi μ 128 l) ((md_pi μ 128 l).1 85) k p l = some (r, τ) := e2
      rw [e3]
      have f3 : m_fr fNa μ (md_pi (md_pi τ 126 r) 125 2) := mf_pi (mf_pi (mf_tr (mf_pi mf_rfl rfl) (mf_mono f2 (fun k hk => by
        simp only [fCp, fNa, List.contains_cons, List.contains_nil, Bool.or_eq_false_iff, beq_eq_false_iff_ne] at hk ⊢
        (repeat' (first | exact trivial | omega | apply And.intro))))) rfl) rfl
      exact ⟨_, rfl, fin _ f3 c2, f3, .inr (.inl rfl)⟩
theorem KLp_Na : KLp fNa := KLp_of rfl
theorem holds_o {N : Nat} {j : Int} {μ : mS} {k p l : Int32} (h : RO j μ) : ∃ μ', mm_holds N μ k p l = some μ' ∧ m_fr (fun k => [123, 124].contains k) μ μ' := by
  rw [mm_holds]
  simp only [sF_fold]
  rw [gd_of (RO_85 h)]
  split
  · exact ⟨_, rfl, mf_rfl⟩
  · obtain ⟨σ', e, f⟩ := stray_o (N := N) (σ := μ) (p := p) (l := l)
    rw [e]
    exact ⟨_, rfl, f⟩
theorem otw_o {N : Nat} {A : Nat → Int} {n b : Int} {o : Nat} {μ : mS} {p l : Int32} (h : MI A n b o μ) (hn : b + 1 ≤ 20 * n + 900) : ∃ μ', otw N p l μ = some μ' ∧ MI A n (b + 1) o μ' ∧ m_fr (fun k => fOp k || [123, 124].contains k) μ μ' ∧ KQ μ' := by
  have r := MI_RO h
  have h' := h
  obtain ⟨h0, hA, hB, ⟨w1, w2, _⟩, l1, _⟩ := h
  have q := (w2 (sF μ 85) (tI_le.mpr l1.1) (Int32.le_refl _)).2
  have g : inB (sI μ 87 (sF μ 85)) 9000 = true := tI_in (tI_le.mp q.1) (by
    have := tI_lt.mp q.2
    have a := hA.2.1
    have c := hB.2.1
    unfold tF at c
    omega)
  have two : ∀ τ : mS, m_fr (fun k => fOp k || [123, 124].contains k) μ τ → sF τ 75 = sF μ 75 → sF τ 85 = sF μ 85 → ∃ μ', ot2 N τ = some μ' ∧ MI A n (b + 1) o μ' ∧ m_fr (fun k => fOp k || [123, 124].contains k) μ μ' ∧ KQ μ' := fun τ f e1 e2 => by
    have rτ : RO 5000 (md_pi τ 125 6) := ⟨by show (0 ≤ (sF τ 75).toInt ∧ (sF τ 75).toInt + 5000 ≤ 159990); rw [e1]; exact r.1, by show 0 ≤ (sF τ 85).toInt ∧ (sF τ 85).toInt ≤ 46; rw [e2]; exact r.2⟩
    have r2 := RO_em (k := 4999) (a := 4) (b := 1) (c := 0) (d := 0) (l := 0) rτ (by omega)
    obtain ⟨υ, e3, f3, e4, e5⟩ := hi_o (N := N) (k := 1) (RO_pi (x := sF τ 75) (j := 126) r2.1 rfl (by decide))
    have e6 : tF υ 75 = tF τ 75 + 1 := by
      have : tF (md_pi (emS (md_pi τ 125 6) 4 1 0 0 0) 126 (sF τ 75)) 75 = tF τ 75 + 1 := r2.2
      omega
    have e7 : tF τ 75 = tF μ 75 := by unfold tF; rw [e1]
    have ff : m_fr (fun k => fOp k || [123, 124].contains k) μ υ := mf_tr f (mf_mono (mf_tr (mf_pi (P := fOp) (mf_tr (mf_pi mf_rfl rfl) emS_fr) rfl) f3) (fun k hk => by
      simp only [Bool.or_eq_false_iff] at hk
      exact hk.1))
    refine ⟨υ, ?_, MI_fr h' ff (MIp_of rfl) (by omega) hn (by omega) (by omega), ff, fun _ => ?_⟩
    · rw [ot2, emit_e (RO_75 rτ (by omega))]
      exact e3
    · have e8 : sF υ 126 = sF τ 75 := by
        have k : mm_higher N (md_pi (emS (md_pi τ 125 6) 4 1 0 0 0) 126 (sF τ 75)) 1 = some υ := e3
        rw [mm_higher] at k
        have k := gd_e (gd_e k)
        have k : some (md_ai _ _ _ _) = some υ := k
        cases k
        rfl
      have e9 : tF υ 126 = tF τ 75 := by unfold tF; rw [e8]
      have := r.1
      omega
  rw [otw, gd_of (RO_85 r), gd_of g]
  split
  · obtain ⟨τ, e, f⟩ := stray_o (N := N) (σ := md_pi μ 125 0) (p := p) (l := l)
    rw [e]
    refine two τ (mf_tr (mf_pi mf_rfl rfl) (mf_mono f (fun k hk => ?_))) (by rw [mf_F f rfl]; rfl) (by rw [mf_F f rfl]; rfl)
    simp only [Bool.or_eq_false_iff] at hk
    exact hk.2
  · exact two _ (mf_pi mf_rfl rfl) rfl rfl
